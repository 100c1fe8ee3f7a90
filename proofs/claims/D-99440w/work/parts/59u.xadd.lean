/-! THE TAPE of the system: twenty bytes more -/
set_option maxRecDepth 100000
def isRT (r : Nat) : Nat → Prop := fun a => a = r ∨ a = r + 1
/-- byte j of five numbers, signed -/
def sby (f5 : Nat → Int32) (j : Nat) : Int32 := (f5 (j / 4) >>> (nI (24 - 8 * (j % 4)) &&& 31)).toInt8.toInt32
theorem sh8 : ∀ t, t < 4 → nI (32 - 8 * t) - 8 = nI (24 - 8 * t) ∧ nI (32 - 8 * t) - 8 + -8 = nI (32 - 8 * (t + 1)) - 8 ∧ ¬ nI (24 - 8 * t) < 0 := by decide +kernel
section
variable {G : am_G} {h : am_H} {r v5 : Nat} {f f5 : Nat → Int32} {len e : Nat} {at_ bg ft dp : Int32}
theorem c_xAdd (hw : HW h) (q : RS h r f len e at_ bg ft dp) (hl : len ≤ 400) (o5 : h.1 v5 = some (.inl (0, 5, .inl f5))) (hv : v5 ≠ r ∧ v5 ≠ r + 1) : Ev G 0 m_X3_add [.ref r, .ref v5] h (fun v h' => (400 < len + 20 ∧ v = .int (-1) ∧ h' = h) ∨ (len + 20 ≤ 400 ∧ v = .int (nI (len + 20)) ∧ RS h' r (feN f len (sby f5) 20) (len + 20) e at_ bg ft dp ∧ HF (isRT r) 0 0 h h')) := by
  have o := q.1
  refine wc_in mt_X3_add rfl (L := [.ref r, .ref v5, am_un, am_un, am_un, am_un, am_un]) rfl ?_
  refine r_aload_0 rfl ?_
  refine r_getf rfl o rfl ?_
  refine r_push rfl ?_
  refine r_iadd rfl ?_
  rw [show (20 : Int32) = nI 20 from rfl, nI_add]
  refine r_push rfl ?_
  by_cases z : 400 < len + 20
  · refine r_icleF rfl (nI_lt (a := 400) z (by omega)) ?_
    refine r_push rfl ?_
    refine r_iret rfl ?_
    exact ⟨_, _, rfl, Or.inl ⟨z, rfl, rfl⟩⟩
  · refine r_icleT rfl (nI_le (b := 400) (by omega) (by decide)) ?_
    refine r_aload_1 rfl ?_
    refine r_astore_2 rfl ?_
    refine r_aload_2 rfl ?_
    refine r_alen rfl o5 ?_
    refine r_istore_3 rfl ?_
    refine r_push rfl ?_
    refine r_istore_4 rfl ?_
    refine wp_forH 5 (fun i L h' => (∃ x5 x6, L = [.ref r, .ref v5, .ref v5, .int (nI 5), .int (nI i), x5, x6]) ∧ RS h' r (feN f len (sby f5) (4 * i)) (len + 4 * i) e at_ bg ft dp ∧ h'.1 v5 = some (.inl (0, 5, .inl f5)) ∧ HF (isRT r) 0 0 h h') (fun i L h' hi hI kont => ?_) (fun L h' hI => ?_) _ _ ⟨⟨am_un, am_un, rfl⟩, q, o5, HF.refl hw⟩
    · obtain ⟨⟨x5, x6, rfl⟩, q1, o6, f1⟩ := hI
      refine r_iload_4 rfl ?_
      refine r_iload_3 rfl ?_
      refine r_icgeF rfl (nI_lt hi (by decide)) ?_
      refine r_aload_2 rfl ?_
      refine r_iload_4 rfl ?_
      refine r_iald rfl o6 rfl hi (by decide) ?_
      refine r_istore_5 rfl ?_
      refine r_push rfl ?_
      refine r_istore_6 rfl ?_
      refine wp_forHK 4 (fun t => [.ref r, .ref v5, .ref v5, .int (nI 5), .int (nI i), .int (f5 i), .int (nI (32 - 8 * t) - 8)]) (fun t h' => RS h' r (feN f len (sby f5) (4 * i + t)) (len + (4 * i + t)) e at_ bg ft dp ∧ h'.1 v5 = some (.inl (0, 5, .inl f5)) ∧ HF (isRT r) 0 0 h h') (fun t h2 ht hK kk => ?_) (fun h2 hK => ?_) ⟨q1, o6, f1⟩
      · obtain ⟨q2, o7, f2⟩ := hK
        obtain ⟨s1, s2, s3⟩ := sh8 t ht
        have o8 := q2.1; have o9 := q2.2
        have es : sby f5 (4 * i + t) = (f5 i >>> (nI (24 - 8 * t) &&& 31)).toInt8.toInt32 := by
          unfold sby
          rw [show (4 * i + t) / 4 = i by omega, show (4 * i + t) % 4 = t by omega]
        refine r_iload_6 rfl ?_
        refine r_ifltF rfl (by rw [s1]; exact Int32.not_lt.mp s3) ?_
        refine r_aload_0 rfl ?_
        refine r_getf rfl o8 rfl ?_
        refine r_aload_0 rfl ?_
        refine r_getf rfl o8 rfl ?_
        refine r_iload_5 rfl ?_
        refine r_iload_6 rfl ?_
        refine r_ishr rfl ?_
        refine r_i2b rfl ?_
        refine r_bast rfl o9 rfl (show len + (4 * i + t) < 400 by omega) (by decide) ?_
        rw [s1, nar_b, ← es]
        refine r_aload_0 rfl ?_
        refine r_dupR rfl ?_
        refine r_getf rfl (am_set_k o8 (by omega)) rfl ?_
        refine r_push rfl ?_
        refine r_iadd rfl ?_
        rw [nI_1]
        refine r_puti rfl (am_set_k o8 (by omega)) rfl ?_
        refine r_iinc_6 rfl ?_
        refine r_goto rfl ?_
        rw [← s1, s2]
        refine kk _ ⟨⟨am_set_at, am_set_k am_set_at (by omega)⟩, am_set_k (am_set_k o7 hv.2) hv.1, HF.setP (HF.setP f2 o9 (Or.inr rfl)) (am_set_k o8 (by omega)) (Or.inl rfl)⟩
      · obtain ⟨q2, o7, f2⟩ := hK
        refine r_iload_6 rfl ?_
        refine r_ifltT rfl (by decide) ?_
        refine r_iinc_4 rfl ?_
        refine r_goto rfl ?_
        rw [nI_1]
        exact kont _ _ ⟨⟨_, _, rfl⟩, q2, o7, f2⟩
    · obtain ⟨⟨x5, x6, rfl⟩, q1, o6, f1⟩ := hI
      have o8 := q1.1
      refine r_iload_4 rfl ?_
      refine r_iload_3 rfl ?_
      refine r_icgeT rfl (by decide) ?_
      refine r_aload_0 rfl ?_
      refine r_getf rfl (by assumption) (by rfl) ?_
      refine r_iret rfl ?_
      exact ⟨_, _, rfl, Or.inr ⟨by omega, rfl, q1, f1⟩⟩
end
