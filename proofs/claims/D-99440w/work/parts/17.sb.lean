/-! STRINGBUILDER: append of a letter, toString -/
set_option maxRecDepth 100000
theorem nI_subn {a b : Nat} (h : a ≤ b) (hb : b < 2 ^ 31) : nI a - nI b ≤ 0 := by
  rw [Int32.le_iff_toInt_le, Int32.toInt_sub, nI_toInt (by omega), nI_toInt hb]
  rw [Int.bmod_eq_of_le (by omega) (by omega)]
  show (a : Int) - b ≤ 0
  omega
/-- the k-th capacity of a StringBuilder, and all of them together -/
def cpF : Nat → Nat
  | 0 => 16
  | k + 1 => 2 * cpF k + 2
def csF : Nat → Nat
  | 0 => 16
  | k + 1 => csF k + cpF (k + 1)
theorem cp_s : ∀ k, cpF (k + 1) = 2 * cpF k + 2 := fun _ => rfl
theorem cp_4 : cpF 5 = 574 := rfl
theorem cp_mono : ∀ k, cpF k ≤ cpF (k + 1) := fun k => by rw [cp_s]; omega
theorem cp_le {j k : Nat} (h : j ≤ k) : cpF j ≤ cpF k := by
  induction h with
  | refl => exact Nat.le_refl _
  | step _ ih => exact Nat.le_trans ih (cp_mono _)
/-- the builder at b, its bytes at vb: n of them -/
def SB (h : am_H) (b vb n k : Nat) (f : Nat → Int32) : Prop := h.1 b = some (.inr (6, [.ref vb, .int 0, .int 0, .int (nI n)])) ∧ h.1 vb = some (.inl (2, cpF k, .inl f)) ∧ n ≤ cpF k ∧ k ≤ 5
section
variable {h h0 : am_H} {G : am_G} {d : Nat} {M : am_M} {pc nx : Nat} {L st : List Value} {Q : am_O → Prop} {b vb n k : Nat} {f : Nat → Int32}
theorem c_sbInit (w : HW h) {a : Nat} (o : h.1 a = some (.inr (6, [.null, .int 0, .int 0, .int 0]))) : En G 1 m_J4_init [.ref a] h (fun h' => SB h' a h.2.1 0 0 (fun _ => 0) ∧ HF (fun x => x = a) 1 16 h h') := by
  have hne : h.2.1 ≠ a := Nat.ne_of_gt (w _ _ o)
  refine wc_in mt_J4_init rfl (L := [.ref a]) rfl ?_
  refine r_aload_0 rfl ?_
  refine r_push rfl ?_
  refine r_inviF rfl rfl rfl (e := 0) (by decide) (Φn := fun h' => SB h' a h.2.1 0 0 (fun _ => 0) ∧ HF (fun x => x = a) 1 16 h h') ?_ ?_
  · refine wc_in mt_J3_init rfl (L := [.ref a, .int 16]) rfl ?_
    have o1 : (am_new h (.inl (2, 16, .inl (fun _ => 0))) 16).1 a = some (.inr (6, [.null, .int 0, .int 0, .int 0])) := am_new_k w o
    refine r_aload_0 rfl ?_
    refine r_oinit rfl rfl ?_
    refine r_push rfl ?_
    refine r_ifeqF rfl (by decide) ?_
    refine r_aload_0 rfl ?_
    refine r_iload_1 rfl ?_
    refine r_newi rfl (show (16 : Int32) = nI 16 from rfl) (by decide) ?_
    refine r_puta rfl (o1) rfl ?_
    refine r_aload_0 rfl ?_
    refine r_push rfl ?_
    refine r_putb rfl (am_set_at) (by decide) rfl ?_
    refine r_goto rfl ?_
    refine r_vret rfl ?_
    refine ⟨_, rfl, ?_, ?_⟩
    · simp only [am_set_set]
      exact ⟨am_set_at, am_set_k am_new_at hne, Nat.zero_le _, by decide⟩
    · simp only [am_set_set]
      exact HF.setP ((HF.new w).mono (fun _ z => z.elim) (Nat.le_refl _) (Nat.le_refl _)) o1 rfl
  · intro h' q
    refine r_vret rfl ?_
    exact ⟨_, rfl, q⟩
theorem c_isL1 (o : ∃ x y z, h.1 b = some (.inr (6, [x, .int 0, y, z]))) : Vc G 0 m_J3_isLatin1 [.ref b] h (.int 1) := by
  obtain ⟨x, y, z, o⟩ := o
  refine wc_in mt_J3_isLatin1 rfl (L := [.ref b]) rfl ?_
  refine r_push rfl ?_
  refine r_ifeqF rfl (by decide) ?_
  refine r_aload_0 rfl ?_
  refine r_getf rfl (by assumption) (by rfl) ?_
  refine r_ifneF rfl (rfl) ?_
  refine r_push rfl ?_
  refine r_goto rfl ?_
  refine r_zret rfl (by first | decide | assumption) ?_
  rfl
theorem c_maxL (a c : Int32) (q : c ≤ a) : Vc G 0 m_J8_max [.int a, .int c] h (.int a) := by
  have := c_max (G := G) (h := h) a c
  rwa [maxF_g q] at this
theorem c_newLen {x : Nat} (hx : x ≤ 100000) (hx0 : 1 ≤ x) {y : Nat} (hy : 1 ≤ y ∧ y ≤ x + 2) : Vc G 1 m_J7_newLength [.int (nI x), .int (nI y), .int (nI x + 2)] h (.int (nI (2 * x + 2))) := by
  have e1 : maxF (nI y) (nI x + 2) = nI x + 2 := maxF_l (by rw [show (2 : Int32) = nI 2 from rfl, nI_add]; exact nI_le (by omega) (by omega))
  have e2 : nI x + (nI x + 2) = nI (2 * x + 2) := by rw [show (2 : Int32) = nI 2 from rfl, nI_add, nI_add]; congr 1; omega
  refine wc_in mt_J7_newLength rfl (L := [.int (nI x), .int (nI y), .int (nI x + 2), am_un]) rfl ?_
  refine r_iload_0 rfl ?_
  refine r_iload_1 rfl ?_
  refine r_iload_2 rfl ?_
  refine r_invP_2 rfl rfl (by decide) (c_max _ _) ?_
  refine r_iadd rfl ?_
  refine r_istore_3 rfl ?_
  refine r_push rfl ?_
  refine r_iload_3 rfl ?_
  refine r_icgeF rfl (by rw [e1, e2]; exact nI_lt (a := 0) (by omega) (by omega)) ?_
  refine r_iload_3 rfl ?_
  refine r_push rfl ?_
  refine r_icgtF rfl (by rw [e1, e2]; exact (show nI (2 * x + 2) ≤ nI 2147483639 from nI_le (by omega) (by decide))) ?_
  refine r_iload_3 rfl ?_
  refine r_iret rfl ?_
  rw [e1, e2]
/-- newCapacity of a full builder -/
theorem c_newCap (q : SB h b vb n k f) (hk : k ≤ 4) (hn : n = cpF k) : Vc G 2 m_J3_newCapacity [.ref b, .int (nI (n + 1))] h (.int (nI (cpF (k + 1)))) := by
  obtain ⟨o, o1, hn2, -⟩ := q
  have hcp : cpF k ≤ cpF 4 := cp_le hk
  have hc4 : cpF 4 = 286 := rfl
  have hc0 : cpF 0 ≤ cpF k := cp_le (Nat.zero_le _)
  have hc16 : cpF 0 = 16 := rfl
  have es : nI (n + 1) - nI (cpF k) = nI 1 := by rw [nI_sub (by omega)]; congr 1; omega
  have s2 : (2 : Int32) <<< ((0 : Int32) &&& 31) = 2 := shl0 2
  have e9 : ¬ nI (cpF (k + 1)) = 2147483647 := fun z => absurd ((nI_eq (a := cpF (k + 1)) (b := 2147483647) (by rw [cp_s]; omega) (by decide)).mp z) (by rw [cp_s]; omega)
  refine wc_in mt_J3_newCapacity rfl (L := [.ref b, .int (nI (n + 1)), am_un, am_un, am_un, am_un]) rfl ?_
  refine r_aload_0 rfl ?_
  refine r_getf rfl o rfl ?_
  refine r_alen rfl o1 ?_
  refine r_istore_2 rfl ?_
  refine r_iload_1 rfl ?_
  refine r_aload_0 rfl ?_
  refine r_getf rfl o rfl ?_
  refine r_ishl rfl ?_
  rw [shl0]
  refine r_istore_3 rfl ?_
  refine r_iload_3 rfl ?_
  refine r_iload_2 rfl ?_
  refine r_isub rfl ?_
  rw [es]
  refine r_istore_4 rfl ?_
  refine r_iload_2 rfl ?_
  refine r_iload_4 rfl ?_
  refine r_iload_2 rfl ?_
  refine r_push rfl ?_
  refine r_aload_0 rfl ?_
  refine r_getf rfl o rfl ?_
  refine r_ishl rfl ?_
  rw [s2]
  refine r_iadd rfl ?_
  refine r_invP_3 rfl rfl (by decide) (c_newLen (x := cpF k) (y := 1) (by omega) (by omega) ⟨by omega, by omega⟩) ?_
  rw [← cp_s]
  refine r_istore_5 rfl ?_
  refine r_iload_5 rfl ?_
  refine r_push rfl ?_
  refine r_icneT rfl (e9) ?_
  refine r_iload_5 rfl ?_
  refine r_aload_0 rfl ?_
  refine r_getf rfl (by assumption) (by rfl) ?_
  refine r_ishr rfl ?_
  refine r_iret rfl ?_
  rw [shr0]
/-- Arrays.copyOf of bytes to a longer array -/
theorem c_copyB (w : HW h) {a N M : Nat} (o : h.1 a = some (.inl (2, N, .inl f))) (hN : N < M) (hM : M ≤ 1000) : Ev G 1 m_J9_copyOf [.ref a, .int (nI M)] h (fun v h' => v = .ref h.2.1 ∧ h' = am_new h (.inl (2, M, .inl (va_cpy f (fun _ => 0) 0 0 N))) M) := by
  have e1 : minF (nI N) (nI M) = nI N := minF_l (nI_le (by omega) (by omega))
  have hne : a ≠ h.2.1 := Nat.ne_of_lt (w _ _ o)
  refine wc_in mt_J9_copyOf rfl (L := [.ref a, .int (nI M), am_un]) rfl ?_
  refine r_iload_1 rfl ?_
  refine r_aload_0 rfl ?_
  refine r_alen rfl o ?_
  refine r_icneT rfl (fun z => absurd ((nI_eq (a := M) (b := N) (by omega) (by omega)).mp z) (by omega)) ?_
  refine r_iload_1 rfl ?_
  refine r_newi rfl rfl (by omega) ?_
  refine r_astore_2 rfl ?_
  refine r_aload_0 rfl ?_
  refine r_push rfl ?_
  refine r_aload_2 rfl ?_
  refine r_push rfl ?_
  refine r_aload_0 rfl ?_
  refine r_alen rfl ((am_new_ne hne).trans o) ?_
  refine r_iload_1 rfl ?_
  refine r_invP_2 rfl rfl (by decide) (c_min _ _) ?_
  rw [e1]
  refine r_copy rfl rfl ((am_new_ne hne).trans o) am_new_at (show (0 : Int32) = nI 0 from rfl) (show (0 : Int32) = nI 0 from rfl) rfl (by omega) (by omega) (by omega) (by omega) rfl ?_
  refine r_aload_2 rfl ?_
  refine r_aret rfl ?_
  refine ⟨_, _, rfl, rfl, ?_⟩
  unfold am_set am_new
  simp only [Prod.mk.injEq, and_true]
  funext x
  by_cases z : x = h.2.1
  · rw [if_pos z, if_pos z]
  · rw [if_neg z, if_neg z, if_neg z]
/-- the builder at b, made since h0 -/
def SBI (h0 h : am_H) (b n k : Nat) (f : Nat → Int32) : Prop := ∃ vb, SB h b vb n k f ∧ h0.2.1 ≤ b ∧ h0.2.1 ≤ vb ∧ HF (fun _ => False) (k + 2) (csF k + 4) h0 h ∧ (k = 0 ∨ cpF (k - 1) < n)
theorem c_ensure (w0 : HW h0) (q : SBI h0 h b n k f) (hn : n < 400) : En G 4 m_J3_ensureCapacityInternal [.ref b, .int (nI (n + 1))] h (fun h' => ∃ vb k' f', SB h' b vb n k' f' ∧ n + 1 ≤ cpF k' ∧ h0.2.1 ≤ b ∧ h0.2.1 ≤ vb ∧ HF (fun _ => False) (k' + 2) (csF k' + 4) h0 h' ∧ (k' = 0 ∨ cpF (k' - 1) < n + 1) ∧ (∀ i, i < n → f' i = f i)) := by
  obtain ⟨vb, q0, hb, hv, F, hk⟩ := q
  have q1 := q0
  obtain ⟨o, o1, hnk, hk5⟩ := q0
  have hcp : cpF k ≤ cpF 5 := cp_le hk5
  have hc5 : cpF 5 = 574 := rfl
  by_cases z : n = cpF k
  · have hk4 : k ≤ 4 := by
      have : k ≠ 5 := fun y => by rw [y] at z; omega
      omega
    have hs : cpF (k + 1) = 2 * cpF k + 2 := cp_s k
    have hc1 : cpF (k + 1) ≤ cpF 5 := cp_le (by omega)
    have es : nI (n + 1) - nI (cpF k) = nI 1 := by rw [nI_sub (by omega)]; congr 1; omega
    have hbv : b ≠ vb := fun y => by rw [y, o1] at o; cases o
    refine wc_in mt_J3_ensureCapacityInternal rfl (L := [.ref b, .int (nI (n + 1)), am_un]) rfl ?_
    refine r_aload_0 rfl ?_
    refine r_getf rfl o rfl ?_
    refine r_alen rfl o1 ?_
    refine r_aload_0 rfl ?_
    refine r_getf rfl o rfl ?_
    refine r_ishr rfl ?_
    rw [shr0]
    refine r_istore_2 rfl ?_
    refine r_iload_1 rfl ?_
    refine r_iload_2 rfl ?_
    refine r_isub rfl ?_
    rw [es]
    refine r_ifleF rfl (by decide) ?_
    refine r_aload_0 rfl ?_
    refine r_aload_0 rfl ?_
    refine r_getf rfl o rfl ?_
    refine r_aload_0 rfl ?_
    refine r_iload_1 rfl ?_
    refine r_invvP_1 rfl o rfl rfl (by decide) (c_newCap q1 hk4 z) ?_
    refine r_aload_0 rfl ?_
    refine r_getf rfl o rfl ?_
    refine r_ishl rfl ?_
    rw [shl0]
    refine r_invE rfl rfl rfl (by decide) (c_copyB F.w o1 (by omega) (by omega)) ?_
    rintro v h' ⟨rfl, rfl⟩
    have o2 := am_new_k (n := cpF (k + 1)) (e := .inl (2, cpF (k + 1), .inl (va_cpy f (fun _ => 0) 0 0 (cpF k)))) F.w o
    refine r_puta rfl o2 rfl ?_
    refine r_vret rfl ?_
    refine ⟨_, rfl, h.2.1, k + 1, _, ⟨am_set_at, am_set_k am_new_at (Nat.ne_of_gt (F.w _ _ o)), by omega, by omega⟩, by omega, hb, F.z, ?_, Or.inr ?_, fun i hi => ?_⟩
    · refine HF.setN ?_ o2 w0 hb
      exact (HF.newN F).mono (fun _ y => y) (by omega) (by rw [csF]; omega)
    · rw [Nat.add_sub_cancel]; omega
    · unfold va_cpy
      rw [if_pos ⟨Nat.zero_le _, by omega⟩]
      congr 1; omega
  · have es : nI (n + 1) - nI (cpF k) ≤ 0 := nI_subn (by omega) (by omega)
    refine wc_in mt_J3_ensureCapacityInternal rfl (L := [.ref b, .int (nI (n + 1)), am_un]) rfl ?_
    refine r_aload_0 rfl ?_
    refine r_getf rfl o rfl ?_
    refine r_alen rfl o1 ?_
    refine r_aload_0 rfl ?_
    refine r_getf rfl o rfl ?_
    refine r_ishr rfl ?_
    rw [shr0]
    refine r_istore_2 rfl ?_
    refine r_iload_1 rfl ?_
    refine r_iload_2 rfl ?_
    refine r_isub rfl ?_
    refine r_ifleT rfl es ?_
    refine r_vret rfl ?_
    exact ⟨_, rfl, vb, k, f, q1, by omega, hb, hv, F, hk.imp id (fun y => by omega), fun _ _ => rfl⟩
theorem nar_a : ∀ q, q < 128 → vp_nar .byte (nI q).toInt8.toInt32 = nI q ∧ ((nI q).toUInt32 % 65536).toInt32 = nI q ∧ (nI q).toInt8.toInt32 = nI q := by decide +kernel
theorem c_canEnc (x : Int32) (q : x ≤ 255) : Vc G 0 m_J10_canEncode [.int x] h (.int 1) := by
  refine wc_in mt_J10_canEncode rfl (L := [.int x]) rfl ?_
  refine r_iload_0 rfl ?_
  refine r_push rfl ?_
  refine r_icgtF rfl (q) ?_
  refine r_push rfl ?_
  refine r_goto rfl ?_
  refine r_zret rfl (by first | decide | assumption) ?_
  rfl
/-- append of a letter -/
theorem c_append (w0 : HW h0) (q : SBI h0 h b n k f) (hn : n < 400) {x : Nat} (hx : x < 128) : Ev G 5 m_J3_append [.ref b, .int (nI x)] h (fun v h' => v = .ref b ∧ ∃ k' f', SBI h0 h' b (n + 1) k' f' ∧ (∀ i, i < n → f' i = f i) ∧ f' n = nI x) := by
  have q9 := q
  obtain ⟨vb, ⟨o, -⟩, -⟩ := q
  refine wc_in mt_J3_append rfl (L := [.ref b, .int (nI x)]) rfl ?_
  refine r_aload_0 rfl ?_
  refine r_aload_0 rfl ?_
  refine r_getf rfl o rfl ?_
  refine r_push rfl ?_
  refine r_iadd rfl ?_
  rw [nI_1]
  refine r_invvF rfl rfl o rfl rfl (by decide) (c_ensure w0 q9 hn) ?_
  rintro h' ⟨vb', k', f', q1, hk1, hb, hv, F, hk, hf⟩
  obtain ⟨p, p1, hnk, hk5⟩ := q1
  have hcp : cpF k' ≤ cpF 5 := cp_le hk5
  have hc5 : cpF 5 = 574 := rfl
  have hbv : vb' ≠ b := fun y => by rw [y, p] at p1; cases p1
  refine r_aload_0 rfl ?_
  refine r_invvP_0 rfl (by assumption) rfl rfl (by decide) (c_isL1 ⟨_, _, _, p⟩) ?_
  refine r_ifeqF rfl (by decide) ?_
  refine r_iload_1 rfl ?_
  refine r_invP_1 rfl rfl (by decide) (c_canEnc _ (nI_le (b := 255) (by omega) (by decide))) ?_
  refine r_ifeqF rfl (by decide) ?_
  refine r_aload_0 rfl ?_
  refine r_getf rfl (by assumption) (by rfl) ?_
  refine r_aload_0 rfl ?_
  refine r_dupR rfl ?_
  refine r_getf rfl (by assumption) (by rfl) ?_
  refine r_dup_x1I rfl ?_
  refine r_push rfl ?_
  refine r_iadd rfl ?_
  refine r_puti rfl (p) rfl ?_
  refine r_iload_1 rfl ?_
  refine r_i2b rfl ?_
  refine r_bast rfl (am_set_k p1 hbv) rfl (by omega) (by omega) ?_
  refine r_goto rfl ?_
  refine r_aload_0 rfl ?_
  refine r_aret rfl ?_
  refine ⟨_, _, rfl, rfl, k', _, ⟨vb', ⟨?_, am_set_at, by omega, hk5⟩, hb, hv, ?_, hk⟩, fun i hi => ?_, ?_⟩
  · rw [am_set_ne (Ne.symm hbv), am_set_at, ← nI_1]; rfl
  · exact HF.setN (HF.setN F p w0 hb) (am_set_k p1 hbv) w0 hv
  · rw [upd_ne (by omega)]; exact hf i hi
  · rw [upd_eq]; exact (nar_a x hx).1
theorem c_append4 (w0 : HW h0) (q : SBI h0 h b n k f) (hn : n < 400) {x : Nat} (hx : x < 128) : Ev G 6 m_J4_append [.ref b, .int (nI x)] h (fun v h' => v = .ref b ∧ ∃ k' f', SBI h0 h' b (n + 1) k' f' ∧ (∀ i, i < n → f' i = f i) ∧ f' n = nI x) := by
  have q9 := q
  obtain ⟨vb, ⟨o, -⟩, -⟩ := q
  refine wc_in mt_J4_append rfl (L := [.ref b, .int (nI x)]) rfl ?_
  refine r_aload_0 rfl ?_
  refine r_iload_1 rfl ?_
  refine r_invvE rfl rfl (o) rfl rfl (by decide) (c_append w0 q9 hn hx) ?_
  rintro v h' ⟨rfl, q1⟩
  refine r_popR rfl ?_
  refine r_aload_0 rfl ?_
  refine r_aret rfl ?_
  exact ⟨_, _, rfl, rfl, q1⟩
end
