/-! ARRAYLIST: what is taken out -/
set_option maxRecDepth 100000
section
variable {h h0 : am_H} {G : am_G} {bs a arr : Nat} {xs : List Nat}
theorem c_alEmpty (q : AL G bs h a arr xs) (hl : xs.length ≤ 390) : Vc G 0 m_J2_isEmpty [.ref a] h (.int (bI (decide (xs.length = 0)))) := by
  obtain ⟨mc, t, cap, f, o, -⟩ := q
  refine wc_in mt_J2_isEmpty rfl (L := [.ref a]) rfl ?_
  by_cases c : xs.length = 0
  · refine r_aload_0 rfl ?_
    refine r_getf rfl (by assumption) (by rfl) ?_
    refine r_ifneF rfl (by rw [c]; decide) ?_
    refine r_push rfl ?_
    refine r_goto rfl ?_
    refine r_zret rfl (by decide) ?_
    rw [decide_eq_true c]; rfl
  · refine r_aload_0 rfl ?_
    refine r_getf rfl (by assumption) (by rfl) ?_
    refine r_ifneT rfl (fun z => c (nI_inj (by omega) (by decide) z)) ?_
    refine r_push rfl ?_
    refine r_zret rfl (by decide) ?_
    rw [decide_eq_false c]; rfl
theorem c_alFast (q : AL G bs h a arr xs) (w : HW h) {i : Nat} (hi : i < xs.length) (hl : xs.length ≤ 390) : En G 0 m_J2_fastRemove [.ref a, .ref arr, .int (nI i)] h (fun h' => bs ≤ arr ∧ AL G bs h' a arr (xs.eraseIdx i) ∧ HF (ALP bs a arr) 0 0 h h') := by
  obtain ⟨mc, t, cap, f, o, o1, ht, ⟨hc, hc6⟩, hf⟩ := q
  have ht4 : t = 4 ∧ 10 ≤ cap ∧ bs ≤ arr := ht.elim id (fun y => absurd y.2.1 (by omega))
  obtain ⟨rfl, k2, k3⟩ := ht4
  have hne : arr ≠ a := fun z => by rw [z, o] at o1; cases o1
  have hlen : (xs.eraseIdx i).length = xs.length - 1 := by rw [List.length_eraseIdx, if_pos hi]
  have F1 : HF (ALP bs a arr) 0 0 h (am_set h a (.inr (4, [.int (mc + 1), .ref arr, .int (nI xs.length)]))) := (HF.set w o).mono (fun x y => Or.inl y) (Nat.le_refl _) (Nat.le_refl _)
  have o2 : (am_set h a (.inr (4, [.int (mc + 1), .ref arr, .int (nI xs.length)]))).1 arr = some (.inl (4, cap, oar f)) := am_set_k o1 hne
  have eN : nI xs.length - 1 = nI (xs.length - 1) := by rw [show (1 : Int32) = nI 1 from rfl]; exact nI_sub (by omega)
  refine wc_in mt_J2_fastRemove rfl (L := [.ref a, .ref arr, .int (nI i), am_un]) rfl ?_
  have fin : ∀ (h2 : am_H) (f2 : Nat → Option Nat), h2.1 a = some (.inr (4, [.int (mc + 1), .ref arr, .int (nI xs.length)])) → h2.1 arr = some (.inl (4, cap, oar f2)) → (∀ j, j < xs.length - 1 → f2 j = (xs.eraseIdx i)[j]?) → HF (ALP bs a arr) 0 0 h h2 → Wp G 0 mt_J2_fastRemove 34 [.ref a, .ref arr, .int (nI i), .int (nI (xs.length - 1))] [] h2 (fun R => ∃ h', R = .inl (none, h') ∧ bs ≤ arr ∧ AL G bs h' a arr (xs.eraseIdx i) ∧ HF (ALP bs a arr) 0 0 h h') := by
    intro h2 f2 p1 p2 p3 p4
    refine r_aload_1 rfl ?_
    refine r_aload_0 rfl ?_
    refine r_iload_3 rfl ?_
    refine r_dup_x1I rfl ?_
    refine r_puti rfl p1 rfl ?_
    refine r_push rfl ?_
    refine r_aastN rfl (am_set_k p2 hne) rfl (by omega) (by omega) ?_
    refine r_vret rfl ?_
    refine ⟨_, rfl, k3, ⟨mc + 1, 4, cap, va_up f2 (xs.length - 1) none, ?_, am_set_at, Or.inl ⟨rfl, k2, k3⟩, ⟨by omega, hc6⟩, fun j hj => ?_⟩, ?_⟩
    · rw [hlen]; exact am_set_k am_set_at (Ne.symm hne)
    · rw [hlen] at hj
      rw [va_up_ne _ _ (by omega)]
      exact p3 j hj
    · exact HF.setP (HF.setP p4 p1 (Or.inl rfl)) (am_set_k p2 hne) (Or.inr ⟨rfl, k3⟩)
  refine r_aload_0 rfl ?_
  refine r_dupR rfl ?_
  refine r_getf rfl o rfl ?_
  refine r_push rfl ?_
  refine r_iadd rfl ?_
  refine r_puti rfl o rfl ?_
  refine r_aload_0 rfl ?_
  refine r_getf rfl am_set_at rfl ?_
  refine r_push rfl ?_
  refine r_isub rfl ?_
  rw [eN]
  refine r_dup rfl ?_
  refine r_istore_3 rfl ?_
  refine r_iload_2 rfl ?_
  refine r_icle rfl (fun c => ?_) (fun c => ?_)
  · have c1 : xs.length - 1 ≤ i := (nI_leI (by omega) (by omega)).mp c
    refine fin _ f am_set_at o2 (fun j hj => ?_) F1
    rw [hf j (by omega), List.getElem?_eraseIdx, if_pos (by omega)]
  · have c1 : i < xs.length - 1 := (nI_ltI (by omega) (by omega)).mp c
    refine r_aload_1 rfl ?_
    refine r_iload_2 rfl ?_
    refine r_push rfl ?_
    refine r_iadd rfl ?_
    refine r_aload_1 rfl ?_
    refine r_iload_2 rfl ?_
    refine r_iload_3 rfl ?_
    refine r_iload_2 rfl ?_
    refine r_isub rfl ?_
    rw [nI_1, nI_sub (by omega)]
    refine r_copyq rfl o2 o2 rfl rfl rfl (by omega) (by omega) (by omega) (by omega) rfl ?_
    refine fin _ _ (am_set_k am_set_at (Ne.symm hne)) am_set_at (fun j hj => ?_) (HF.setP F1 o2 (Or.inr ⟨rfl, k3⟩))
    rw [List.getElem?_eraseIdx]
    by_cases z : j < i
    · rw [if_pos z, ← hf j (by omega)]
      exact pk_cpy_out (by omega)
    · rw [if_neg z, ← hf (j + 1) (by omega)]
      rw [pk_cpy_in (by omega) (by omega)]
      congr 1
      omega
theorem c_alRemove (q : AL G bs h a arr xs) (w : HW h) {i : Nat} (hi : i < xs.length) (hl : xs.length ≤ 390) : Ev G 2 m_J2_remove [.ref a, .int (nI i)] h (fun v h' => v = .ref xs[i] ∧ bs ≤ arr ∧ AL G bs h' a arr (xs.eraseIdx i) ∧ HF (ALP bs a arr) 0 0 h h') := by
  have Q := q
  obtain ⟨mc, t, cap, f, o, o1, ht, ⟨hc, hc6⟩, hf⟩ := q
  have ht4 : t = 4 ∧ 10 ≤ cap ∧ bs ≤ arr := ht.elim id (fun y => absurd y.2.1 (by omega))
  obtain ⟨rfl, k2, k3⟩ := ht4
  have ev : va_rf (f i) = .ref (xs[i]) := by rw [hf i hi, List.getElem?_eq_getElem hi]; rfl
  refine wc_in mt_J2_remove rfl (L := [.ref a, .int (nI i), am_un, am_un]) rfl ?_
  refine r_iload_1 rfl ?_
  refine r_aload_0 rfl ?_
  refine r_getf rfl o rfl ?_
  refine r_invP_2 rfl rfl (by decide) (c_ckIx hi (by omega)) ?_
  refine r_pop rfl ?_
  refine r_aload_0 rfl ?_
  refine r_getf rfl o rfl ?_
  refine r_astore_2 rfl ?_
  refine r_aload_2 rfl ?_
  refine r_iload_1 rfl ?_
  refine r_aald rfl o1 rfl rfl (by omega) (by omega) ?_
  rw [ev]
  refine r_astore_3 rfl ?_
  refine r_aload_0 rfl ?_
  refine r_aload_2 rfl ?_
  refine r_iload_1 rfl ?_
  refine r_invvF rfl rfl o rfl rfl (by decide) (c_alFast Q w hi hl) ?_
  rintro h2 ⟨z1, z2, z3⟩
  refine r_aload_3 rfl ?_
  refine r_aret rfl ?_
  exact ⟨_, _, rfl, rfl, z1, z2, z3⟩
theorem c_alClear (q : AL G bs h a arr xs) (w : HW h) (hl : xs.length ≤ 390) : En G 0 m_J2_clear [.ref a] h (fun h' => AL G bs h' a arr [] ∧ HF (ALP bs a arr) 0 0 h h') := by
  obtain ⟨mc, t, cap, f, o, o1, ht, ⟨hc, hc6⟩, hf⟩ := q
  have hne : arr ≠ a := fun z => by rw [z, o] at o1; cases o1
  refine wc_in mt_J2_clear rfl (L := [.ref a, am_un, am_un, am_un]) rfl ?_
  refine r_aload_0 rfl ?_
  refine r_dupR rfl ?_
  refine r_getf rfl o rfl ?_
  refine r_push rfl ?_
  refine r_iadd rfl ?_
  refine r_puti rfl o rfl ?_
  refine r_aload_0 rfl ?_
  refine r_getf rfl am_set_at rfl ?_
  refine r_astore_1 rfl ?_
  refine r_aload_0 rfl ?_
  refine r_getf rfl am_set_at rfl ?_
  refine r_istore_2 rfl ?_
  refine r_aload_0 rfl ?_
  refine r_push rfl ?_
  refine r_dup_x1I rfl ?_
  refine r_puti rfl am_set_at rfl ?_
  rw [am_set_set]
  refine r_istore_3 rfl ?_
  have F1 : HF (ALP bs a arr) 0 0 h (am_set h a (.inr (4, [.int (mc + 1), .ref arr, .int 0]))) := (HF.set w o).mono (fun x y => Or.inl y) (Nat.le_refl _) (Nat.le_refl _)
  refine wp_forHK xs.length (fun j => [.ref a, .ref arr, .int (nI xs.length), .int (nI j)]) (fun j h' => h'.1 a = some (.inr (4, [.int (mc + 1), .ref arr, .int 0])) ∧ (∃ f2, h'.1 arr = some (.inl (t, cap, oar f2))) ∧ HF (ALP bs a arr) 0 0 h h') (fun j h' hj hK kont => ?_) (fun h' hK => ?_) ⟨am_set_at, ⟨f, am_set_k o1 hne⟩, F1⟩
  · obtain ⟨p1, ⟨f2, p2⟩, p3⟩ := hK
    have ht4 : t = 4 ∧ 10 ≤ cap ∧ bs ≤ arr := ht.elim id (fun y => absurd y.2.1 (by omega))
    obtain ⟨rfl, k2, k3⟩ := ht4
    refine r_iload_3 rfl ?_
    refine r_iload_2 rfl ?_
    refine r_icgeF rfl (nI_lt hj (by omega)) ?_
    refine r_aload_1 rfl ?_
    refine r_iload_3 rfl ?_
    refine r_push rfl ?_
    refine r_aastN rfl p2 rfl (by omega) (by omega) ?_
    refine r_iinc_3 rfl ?_
    refine r_goto rfl ?_
    rw [nI_1]
    exact kont _ ⟨am_set_k p1 (Ne.symm hne), ⟨_, am_set_at⟩, HF.setP p3 p2 (Or.inr ⟨rfl, k3⟩)⟩
  · obtain ⟨p1, ⟨f2, p2⟩, p3⟩ := hK
    refine r_iload_3 rfl ?_
    refine r_iload_2 rfl ?_
    refine r_icgeT rfl (Int32.le_refl _) ?_
    refine r_vret rfl ?_
    exact ⟨_, rfl, ⟨mc + 1, t, cap, f2, p1, p2, ht, ⟨Nat.zero_le _, hc6⟩, fun i hi => absurd hi (by simp)⟩, p3⟩
end
