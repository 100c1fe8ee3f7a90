/-! THE MODEL reads: words, numbers -/
set_option maxRecDepth 100000
section
variable {T : Nat → Int32} {e y : Nat} {g g' : Nat → Int32} {h : am_H} {G : am_G}
theorem SA.mh {v : Nat} {w : List Int32} (q : SA h v w) {fs : List Value} {c0 : Nat} (o : h.1 y = some (.inr (c0, fs))) (hv : v ≠ y) {x : am_C} : SA (am_set h y x) v w := by
  obtain ⟨c, a, t, f, hs, hz, q1, q2, q3, q4⟩ := q
  exact ⟨c, a, t, f, hs, hz, am_set_k q1 hv, q2, am_set_k q3 (fun z => by rw [z, o] at q3; cases q3), q4⟩
theorem sub_eq {T : Nat → Int32} {b : Nat} {w : List Int32} {n : Nat} : subF T b n = w ↔ (n = w.length ∧ ∀ i, i < n → T (b + i) = w.getD i 0) := by
  constructor
  · rintro rfl
    rw [subF_len]
    exact ⟨rfl, fun i hi => (subF_get T n b i hi).symm⟩
  · rintro ⟨e, q⟩
    refine List.ext_getElem (by rw [subF_len, e]) (fun i h1 h2 => ?_)
    have z := subF_get T n b i (by rw [subF_len] at h1; exact h1)
    rw [List.getD_eq_getElem?_getD, List.getElem?_eq_getElem h1] at z
    have z2 := q i (by omega)
    rw [List.getD_eq_getElem?_getD, List.getElem?_eq_getElem h2] at z2
    exact z.trans z2
theorem c_mHas (g34 : G 34 = .null ∨ ∃ a, G 34 = .ref a) (q : MP h y g T e) {a : Nat} (hg : g 11 = nI a) (ha : a ≤ e) {v : Nat} {w : List Int32} (hs : SA h v w) (hw : AS w = true) (hv : v ≠ y) : Uc G 5 m_X6_has [.ref y, .ref v] h (.int (bI (wdF T e a w))) (mh h y (upd g 11 (nI (if wdF T e a w = true then wbF T e a else skF T e a)))) := by
  have he := q.2.2.2
  have hsl := sk_le T ha
  have hbl := wb_le T ha
  have hbg := wb_ge T e a
  have q1 : MP (mh h y (upd g 11 (nI (skF T e a)))) y (upd g 11 (nI (skF T e a))) T e := q.set rfl rfl
  have o1 := q1.1
  have ge := q1.2.2.1
  have hs1 : SA (mh h y (upd g 11 (nI (skF T e a)))) v w := hs.mh q.1 hv
  have hwl : w.length ≤ 400 := by obtain ⟨_, _, _, _, _, _, _, _, _, _, _, z⟩ := hs; exact z
  have hso : ∃ c fs, (c = 7 ∨ c = 107) ∧ (mh h y (upd g 11 (nI (skF T e a)))).1 v = some (.inr (c, fs)) := by
    obtain ⟨c, _, _, _, _, _, z1, z2, -⟩ := hs1
    exact ⟨c, _, z2, z1⟩
  obtain ⟨vc, vfs, vc7, vo⟩ := hso
  have loop : ∀ k, k ≤ e → skF T e a ≤ k → Wp G 5 mt_X6_has 38 [.ref y, .ref v, .int (nI (weF T e k)), am_un] [] (mh h y (upd g 11 (nI (skF T e a)))) (fun R => R = .inl (some (.int (bI (wdF T e a w))), mh h y (upd g 11 (nI (if wdF T e a w = true then wbF T e a else skF T e a))))) → Wp G 5 mt_X6_has 9 [.ref y, .ref v, .int (nI k), am_un] [] (mh h y (upd g 11 (nI (skF T e a)))) (fun R => R = .inl (some (.int (bI (wdF T e a w))), mh h y (upd g 11 (nI (if wdF T e a w = true then wbF T e a else skF T e a))))) := by
    refine scan_ind (p := isLt) (T := T) (e := e) (fun k hk hp ih => ?_) (fun k hk => ?_)
    · intro hke hsk kont
      have ek : weF T e k = weF T e (k + 1) := scan_step hk hp
      rw [ek] at kont
      have ef : inF (T k) 97 122 = true := hp
      refine r_iload_2 rfl ?_
      refine r_aload_0 rfl ?_
      refine r_getf rfl o1 rfl ?_
      rw [ge]
      refine r_icgeF rfl (nI_lt hk (by omega)) ?_
      refine r_aload_0 rfl ?_
      refine r_iload_2 rfl ?_
      refine r_invvP_1 rfl o1 rfl rfl (by decide) (c_mLetter q1 (by omega)) ?_
      refine r_push rfl ?_
      refine r_push rfl ?_
      refine r_invP_3 rfl rfl (by decide) (c_isIn _ _ _) ?_
      rw [ef]
      refine r_ifeqF rfl (by decide) ?_
      refine r_iinc_2 rfl ?_
      refine r_goto rfl ?_
      rw [nI_1]
      exact ih (by omega) (by omega) kont
    · intro hke hsk kont
      have ek : weF T e k = k := scan_stop hk
      rw [ek] at kont
      refine r_iload_2 rfl ?_
      refine r_aload_0 rfl ?_
      refine r_getf rfl o1 rfl ?_
      rw [ge]
      by_cases z : k < e
      · have ef : inF (T k) 97 122 = false := hk z
        refine r_icgeF rfl (nI_lt z (by omega)) ?_
        refine r_aload_0 rfl ?_
        refine r_iload_2 rfl ?_
        refine r_invvP_1 rfl o1 rfl rfl (by decide) (c_mLetter q1 (by omega)) ?_
        refine r_push rfl ?_
        refine r_push rfl ?_
        refine r_invP_3 rfl rfl (by decide) (c_isIn _ _ _) ?_
        rw [ef]
        refine r_ifeqT rfl rfl ?_
        exact kont
      · refine r_icgeT rfl (nI_le (by omega) (by omega)) ?_
        exact kont
  refine wc_in mt_X6_has rfl (L := [.ref y, .ref v, am_un, am_un]) rfl ?_
  refine r_aload_0 rfl ?_
  refine r_invvV rfl rfl q.1 rfl rfl (by decide) (c_mSkip q hg ha) ?_
  refine r_aload_0 rfl ?_
  refine r_getf rfl o1 rfl ?_
  rw [upd_eq]
  refine r_istore_2 rfl ?_
  refine loop _ hsl (Nat.le_refl _) ?_
  show Wp G 5 mt_X6_has 38 [.ref y, .ref v, .int (nI (wbF T e a)), am_un] [] _ _
  refine r_iload_2 rfl ?_
  refine r_aload_0 rfl ?_
  refine r_getf rfl o1 rfl ?_
  rw [upd_eq]
  refine r_isub rfl ?_
  rw [nI_sub hbg]
  refine r_aload_1 rfl ?_
  refine r_invvC7 vc7 rfl rfl vo rfl (by decide) (c_length hs1) ?_
  have dl := nI_eq (a := wbF T e a - skF T e a) (b := w.length) (by omega) (by omega)
  have fin : ∀ b : Bool, wdF T e a w = b → b = false → mh h y (upd g 11 (nI (skF T e a))) = mh h y (upd g 11 (nI (if wdF T e a w = true then wbF T e a else skF T e a))) := fun b z1 z2 => by rw [z1, z2]; rfl
  refine r_iceq rfl (fun c => ?_) (fun c => ?_)
  · have hl := dl.mp c
    refine r_push rfl ?_
    refine r_istore_3 rfl ?_
    refine wp_forK w.length (fun j => [.ref y, .ref v, .int (nI (wbF T e a)), .int (nI j)]) (fun j => ∀ i, i < j → T (skF T e a + i) = w.getD i 0) (fun i z => absurd z (by omega)) (fun j hj hk k => ?_) (fun hk => ?_)
    · refine r_iload_3 rfl ?_
      refine r_aload_1 rfl ?_
      refine r_invvC7 vc7 rfl rfl vo rfl (by decide) (c_length hs1) ?_
      refine r_icgeF rfl (nI_lt hj (by omega)) ?_
      refine r_aload_0 rfl ?_
      refine r_aload_0 rfl ?_
      refine r_getf rfl o1 rfl ?_
      rw [upd_eq]
      refine r_iload_3 rfl ?_
      refine r_iadd rfl ?_
      rw [nI_add]
      refine r_invvP_1 rfl o1 rfl rfl (by decide) (c_mLetter q1 (by omega)) ?_
      refine r_aload_1 rfl ?_
      refine r_iload_3 rfl ?_
      refine r_invvC7 vc7 rfl rfl vo rfl (by decide) (c_charAt g34 hs1 hw hj) ?_
      refine r_iceq rfl (fun c9 => ?_) (fun c9 => ?_)
      · refine r_iinc_3 rfl ?_
        refine r_goto rfl ?_
        rw [nI_1]
        refine k (fun i z => ?_)
        by_cases z1 : i = j
        · rw [z1]; exact c9
        · exact hk i (by omega)
      · have ew : wdF T e a w = false := decide_eq_false (fun z => c9 ((sub_eq.mp z).2 j (by rw [show weF T e (skF T e a) - skF T e a = w.length from hl]; exact hj)))
        refine r_push rfl ?_
        refine r_zret rfl (Or.inl rfl) ?_
        rw [fin _ ew rfl, ew]; rfl
    · have ew : wdF T e a w = true := decide_eq_true (sub_eq.mpr ⟨hl, fun i hi => hk i (by rw [← hl]; exact hi)⟩)
      refine r_iload_3 rfl ?_
      refine r_aload_1 rfl ?_
      refine r_invvC7 vc7 rfl rfl vo rfl (by decide) (c_length hs1) ?_
      refine r_icgeT rfl (Int32.le_refl _) ?_
      refine r_aload_0 rfl ?_
      refine r_iload_2 rfl ?_
      refine r_puti rfl o1 rfl ?_
      rw [mo_11, upd_upd]
      refine r_push rfl ?_
      refine r_zret rfl (Or.inr rfl) ?_
      rw [ew, if_pos rfl, am_set_set]; rfl
  · have ew : wdF T e a w = false := decide_eq_false (fun z => c (dl.mpr (sub_eq.mp z).1))
    refine r_push rfl ?_
    refine r_zret rfl (Or.inl rfl) ?_
    rw [fin _ ew rfl, ew]; rfl
end
