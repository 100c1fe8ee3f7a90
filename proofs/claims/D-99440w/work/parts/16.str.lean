/-! STRINGS: what a String, a StringBuilder holds; the JDK's methods on them -/
set_option maxRecDepth 100000
theorem shl0 (x : Int32) : x <<< ((0 : Int32) &&& 31) = x := by rw [show ((0 : Int32) &&& 31) = 0 from by decide]; simp
theorem shr0 (x : Int32) : x >>> ((0 : Int32) &&& 31) = x := by rw [show ((0 : Int32) &&& 31) = 0 from by decide]; simp
/-- the string at v is w -/
def SA (h : am_H) (v : Nat) (w : List Int32) : Prop := ∃ (c a t : Nat) (f : Nat → Int32) (hs hz : Int32), h.1 v = some (.inr (c, [.ref a, .int 0, .int hs, .int hz])) ∧ (c = 7 ∨ c = 107) ∧ h.1 a = some (.inl (t, w.length, .inl f)) ∧ (t = 2 ∨ t = 102) ∧ (∀ i, i < w.length → f i = w.getD i 0) ∧ w.length ≤ 400
theorem SA.keep {h h' : am_H} {P : Nat → Prop} {c s v : Nat} {w : List Int32} (q : SA h v w) (g : HF P c s h h') (hp : ∀ a e, h.1 a = some e → P a → ∀ n x, e ≠ .inl (n, x)) (hv : ¬ P v) : SA h' v w := by
  obtain ⟨c, a, t, f, hs, hz, q1, q2, q3, q4⟩ := q
  exact ⟨c, a, t, f, hs, hz, g.k q1 hv, q2, g.k q3 (fun z => hp _ _ q3 z _ _ rfl), q4⟩
section
variable {h h0 : am_H} {G : am_G} {d : Nat} {M : am_M} {pc nx : Nat} {L st : List Value} {Q : am_O → Prop}
theorem r_baldC {a n t : Nat} {i : Int32} {j : Nat} {f : Nat → Int32} (ht : t = 2 ∨ t = 102) (hf : M.1 pc = some (a_bald nx)) (ha : h.1 a = some (.inl (t, n, .inl f))) (hi : i = nI j) (hj : j < n) (hn : n < 2 ^ 31) (k : Wp G d M nx L (.int (f j) :: st) h Q) : Wp G d M pc L (.int i :: .ref a :: st) h Q := by
  rcases ht with rfl | rfl
  · exact r_bald hf ha hi hj hn k
  · exact r_baldO hf ha hi hj hn k
theorem r_invvC7 {a c n k : Nat} {fs : List Value} {st0 As : List Value} {v : Value} {e : Nat} (hc7 : c = 7 ∨ c = 107) (hf : M.1 pc = some (a_invv [(7, k)] n nx)) (hp : am_pop n [] st0 = some (As, .ref a :: st)) (ha : h.1 a = some (.inr (c, fs))) (hw : (Nat.ble (am_wd st) 8 && am_1s As) = true) (hd : e < d) (hc : Vc G e k (.ref a :: As) h v) (kk : Wp G d M nx L (v :: st) h Q) : Wp G d M pc L st0 h Q :=
  r_k hf (am_invv_ok hp ha (by rcases hc7 with rfl | rfl <;> rfl) hw) hd hc (fun R q => by subst q; exact kk)
theorem cc7 {c : Nat} (h : c = 7 ∨ c = 107) : am_cc c 7 = true := by rcases h with rfl | rfl <;> rfl
theorem ci7 {c : Nat} (h : c = 7 ∨ c = 107) : am_in c [7] = true := by rcases h with rfl | rfl <;> rfl
/-- StringLatin1.equals -/
theorem c_eqL {a b t t' n m : Nat} {f g : Nat → Int32} (ha : h.1 a = some (.inl (t, n, .inl f))) (ht : t = 2 ∨ t = 102) (hb : h.1 b = some (.inl (t', m, .inl g))) (ht' : t' = 2 ∨ t' = 102) (hn : n ≤ 400) (hm : m ≤ 400) : Vc G 0 m_J10_equals [.ref a, .ref b] h (.int (bI (decide (n = m ∧ ∀ i, i < n → f i = g i)))) := by
  have dn := nI_eq (a := n) (b := m) (by omega) (by omega)
  have loop : n = m → Wp G 0 mt_J10_equals 9 [.ref a, .ref b, .int 0] [] h (fun R => R = .inl (some (.int (bI (decide (n = m ∧ ∀ i, i < n → f i = g i)))), h)) := by
    intro e1
    subst e1
    refine wp_forK n (fun j => [.ref a, .ref b, .int (nI j)]) (fun j => ∀ i, i < j → f i = g i) (fun i q => absurd q (by omega)) (fun j hj hk k => ?_) (fun hk => ?_)
    · have dj := nI_ge hj (show n < 2 ^ 31 by omega)
      refine r_iload_2 rfl ?_
      refine r_aload_0 rfl ?_
      refine r_alen rfl ha ?_
      refine r_icgeF rfl (nI_lt hj (by omega)) ?_
      refine r_aload_0 rfl ?_
      refine r_iload_2 rfl ?_
      refine r_baldC ht rfl ha rfl hj (by omega) ?_
      refine r_aload_1 rfl ?_
      refine r_iload_2 rfl ?_
      refine r_baldC ht' rfl hb rfl hj (by omega) ?_
      refine r_iceq rfl (fun c => ?_) (fun c => ?_)
      · refine r_iinc_2 rfl ?_
        refine r_goto rfl ?_
        rw [nI_1]
        refine k (fun i q => ?_)
        by_cases z : i = j
        · rw [z]; exact c
        · exact hk i (by omega)
      · refine r_push rfl ?_
        refine r_zret rfl (by first | decide | assumption) ?_
        rw [decide_eq_false (fun z => c (z.2 j hj))]; rfl
    · refine r_iload_2 rfl ?_
      refine r_aload_0 rfl ?_
      refine r_alen rfl (by assumption) ?_
      refine r_icgeT rfl (Int32.le_refl _) ?_
      refine r_push rfl ?_
      refine r_zret rfl (by first | decide | assumption) ?_
      rw [decide_eq_true ⟨rfl, hk⟩]; rfl
  refine wc_in mt_J10_equals rfl (L := [.ref a, .ref b, am_un]) rfl ?_
  refine r_aload_0 rfl ?_
  refine r_alen rfl (by assumption) ?_
  refine r_aload_1 rfl ?_
  refine r_alen rfl (by assumption) ?_
  refine r_icne rfl (fun c_4 => ?_) (fun c_4 => ?_)
  · refine r_push rfl ?_
    refine r_zret rfl (by first | decide | assumption) ?_
    have e1 : ¬ n = m := fun z => c_4 (dn.mpr z)
    rw [decide_eq_false (fun z => e1 z.1)]; rfl
  · refine r_push rfl ?_
    refine r_istore_2 rfl ?_
    have e1 : n = m := dn.mp (c_4)
    exact loop e1
theorem SA.uniq {v : Nat} {w1 w2 : List Int32} (q1 : SA h v w1) (q2 : SA h v w2) : w1 = w2 := by
  obtain ⟨c, a, t, f, hs, hz, o1, -, o2, -, o3, -⟩ := q1
  obtain ⟨c', a', t', f', hs', hz', p1, -, p2, -, p3, -⟩ := q2
  rw [o1] at p1
  cases p1
  rw [o2] at p2
  have e1 := Option.some.inj p2
  have e2 := Sum.inl.inj e1
  have e3 : w1.length = w2.length := (Prod.mk.inj (Prod.mk.inj e2).2).1
  have e4 : f = f' := Sum.inl.inj (Prod.mk.inj (Prod.mk.inj e2).2).2
  subst e4
  refine List.ext_getElem e3 (fun i h1 h2 => ?_)
  have z1 := o3 i h1
  have z2 := p3 i h2
  rw [z1] at z2
  rw [List.getD_eq_getElem?_getD, List.getD_eq_getElem?_getD, List.getElem?_eq_getElem h1, List.getElem?_eq_getElem h2] at z2
  exact z2
theorem SA.eqd {w1 w2 : List Int32} {f g : Nat → Int32} (h1 : ∀ i, i < w1.length → f i = w1.getD i 0) (h2 : ∀ i, i < w2.length → g i = w2.getD i 0) : decide (w1.length = w2.length ∧ ∀ i, i < w1.length → f i = g i) = decide (w1 = w2) := by
  apply decide_eq_decide.mpr
  constructor
  · rintro ⟨e, q⟩
    refine List.ext_getElem e (fun i l1 l2 => ?_)
    have z := q i l1
    rw [h1 i l1, h2 i l2, List.getD_eq_getElem?_getD, List.getD_eq_getElem?_getD, List.getElem?_eq_getElem l1, List.getElem?_eq_getElem l2] at z
    exact z
  · rintro rfl
    exact ⟨rfl, fun i l => (h1 i l).trans (h2 i l).symm⟩
/-- String.equals of two strings -/
theorem c_equals {v1 v2 : Nat} {w1 w2 : List Int32} (q1 : SA h v1 w1) (q2 : SA h v2 w2) : Vc G 1 m_J5_equals [.ref v1, .ref v2] h (.int (bI (decide (w1 = w2)))) := by
  have u : v1 = v2 → w1 = w2 := fun z => by subst z; exact q1.uniq q2
  obtain ⟨c, a, t, f, hs, hz, o1, o2, o3, o4, o5, o6⟩ := q1
  obtain ⟨c', a', t', f', hs', hz', p1, p2, p3, p4, p5, p6⟩ := q2
  refine wc_in mt_J5_equals rfl (L := [.ref v1, .ref v2, am_un]) rfl ?_
  refine r_aload_0 rfl ?_
  refine r_aload_1 rfl ?_
  by_cases z : v1 = v2
  · subst z
    refine r_acneF rfl (am_same_y _) ?_
    refine r_push rfl ?_
    refine r_zret rfl (by first | decide | assumption) ?_
    rw [decide_eq_true (u rfl)]; rfl
  · refine r_acneT rfl (am_same_n z) ?_
    refine r_aload_1 rfl ?_
    refine r_inst rfl p1 (cc7 p2) ?_
    refine r_ifeqF rfl (by decide) ?_
    refine r_aload_1 rfl ?_
    refine r_cast rfl p1 (ci7 p2) ?_
    refine r_astore_2 rfl ?_
    refine r_push rfl ?_
    refine r_ifeqF rfl (by decide) ?_
    refine r_aload_0 rfl ?_
    refine r_getfO rfl o1 (cc7 o2) rfl ?_
    refine r_aload_2 rfl ?_
    refine r_getfO rfl p1 (cc7 p2) rfl ?_
    refine r_icneF rfl rfl ?_
    refine r_aload_0 rfl ?_
    refine r_getfO rfl o1 (cc7 o2) rfl ?_
    refine r_aload_2 rfl ?_
    refine r_getfO rfl p1 (cc7 p2) rfl ?_
    refine r_invP_2 rfl rfl (by decide) (c_eqL o3 o4 p3 p4 o6 p6) ?_
    rw [SA.eqd o5 p5]
    refine r_ifeq rfl (fun c_47 => ?_) (fun c_47 => ?_)
    · refine r_push rfl ?_
      refine r_zret rfl (by first | decide | assumption) ?_
      first | (rw [bI_0.mp c_47]; rfl) | (rw [bI_n0.mp c_47]; rfl)
    · refine r_push rfl ?_
      refine r_goto rfl ?_
      refine r_zret rfl (by first | decide | assumption) ?_
      first | (rw [bI_0.mp c_47]; rfl) | (rw [bI_n0.mp c_47]; rfl)
end
