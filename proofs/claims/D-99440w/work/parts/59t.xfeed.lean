/-! THE TAPE of the system: feed, end, fault -/
set_option maxRecDepth 100000
theorem nar_b (x : Int32) : vp_nar .byte x.toInt8.toInt32 = x.toInt8.toInt32 := by
  unfold vp_nar
  rw [pk_nb]
section
variable {G : am_G} {h : am_H} {x r : Nat} {hi : Bool} {f f5 : Nat → Int32} {len e : Nat} {at_ bg ft dp : Int32}
theorem c_xFault (o : h.1 x = some (.inr (0, xobj x hi))) (q : RS h (x + 46) f len e at_ bg ft dp) : Vc G 0 m_X1_fault [.ref x] h (.int ft) := by
  have o1 := q.1
  refine wc_in mt_X1_fault rfl (L := [.ref x]) rfl ?_
  refine r_aload_0 rfl ?_
  refine r_getf rfl (by assumption) (by rfl) ?_
  refine r_getf rfl (by assumption) (by rfl) ?_
  refine r_iret rfl ?_
  rfl
theorem c_xCut (q : RS h r f len e at_ bg ft dp) (hl : len ≤ 400) (n : Int32) : Wc G 0 m_X3_cut [.ref r, .int n] h (fun R => (inF n 0 (nI len) = false ∧ R = .inl (some (.int 0), h)) ∨ (∃ k, k ≤ len ∧ n = nI k ∧ inF n 0 (nI len) = true ∧ R = .inl (some (.int 1), am_set h r (.inr (2, robj r k e at_ bg ft dp))))) := by
  have o := q.1
  refine wc_in mt_X3_cut rfl (L := [.ref r, .int n]) rfl ?_
  by_cases c1 : n < 0
  · refine r_iload_1 rfl ?_
    refine r_ifltT rfl (c1) ?_
    refine r_push rfl ?_
    refine r_zret rfl (by first | decide | assumption) ?_
    exact Or.inl ⟨inF_l c1, rfl⟩
  · by_cases c2 : n ≤ nI len
    · have e1 : inF n 0 (nI len) = true := inF_t (Int32.not_lt.mp c1) c2
      obtain ⟨k, hk, rfl⟩ := inF_nI (n := len + 1) (by omega) (by rw [← nI_1, show nI len + 1 - 1 = nI len by rw [nI_1, show (1 : Int32) = nI 1 from rfl, nI_sub (by omega)]; rfl]; exact e1)
      refine r_iload_1 rfl ?_
      refine r_ifltF rfl (Int32.not_lt.mp c1) ?_
      refine r_iload_1 rfl ?_
      refine r_aload_0 rfl ?_
      refine r_getf rfl (by assumption) (by rfl) ?_
      refine r_icleT rfl (c2) ?_
      refine r_aload_0 rfl ?_
      refine r_iload_1 rfl ?_
      refine r_puti rfl (by assumption) rfl ?_
      refine r_push rfl ?_
      refine r_zret rfl (by first | decide | assumption) ?_
      exact Or.inr ⟨k, by omega, rfl, e1, rfl⟩
    · refine r_iload_1 rfl ?_
      refine r_ifltF rfl (Int32.not_lt.mp c1) ?_
      refine r_iload_1 rfl ?_
      refine r_aload_0 rfl ?_
      refine r_getf rfl (by assumption) (by rfl) ?_
      refine r_icleF rfl (Int32.not_le.mp c2) ?_
      refine r_push rfl ?_
      refine r_zret rfl (by first | decide | assumption) ?_
      exact Or.inl ⟨inF_h (Int32.not_le.mp c2), rfl⟩
end
