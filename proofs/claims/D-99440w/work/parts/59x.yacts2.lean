/-! ACTS of the model: rest, pass, lift, lay -/
set_option maxRecDepth 100000
section
variable {G : am_G} {h : am_H} {y k : Nat} {m g ac : Nat → Int32}
theorem c_yRest (q : MM h y g m) (v : VR m) (qa : h.1 (y + 4) = some (.inl (0, 4428, .inl ac))) (e6 : g 6 = nI k) (hk : k ≤ 12) (p : Int32) : Ac G 4 m_X6_rest [.ref y, .int p] h y g ac m (rRow m p) k (qRest m p) := by
  have o := q.1
  have o1 := (q.thr (nI 1)).1; have o3 := (q.thr (nI 0)).1
  refine wc_in mt_X6_rest rfl (L := [.ref y, .int p, am_un]) rfl ?_
  unfold qRest
  cases e1 : inF p 0 (m 3 - 1) with
  | false =>
    rw [if_pos rfl]
    refine r_aload_0 rfl ?_
    refine r_aload_0 rfl ?_
    refine r_iload_1 rfl ?_
    refine r_invvP_1 rfl (o) rfl rfl (by decide) (c_mIsPerson q p) ?_
    refine r_ifneF rfl (by rw [e1]; rfl) ?_
    refine r_push rfl ?_
    refine r_goto rfl ?_
    refine r_puti rfl (o) rfl ?_
    rw [mo_0]
    refine r_aload_0 rfl ?_
    refine r_getf rfl (o1) (by rfl) ?_
    refine r_ifleF rfl (by rw [upd_eq]; decide) ?_
    refine r_push rfl ?_
    refine r_iret rfl ?_
    rfl
  | true =>
    rw [if_neg (by decide)]
    have f1 := e1
    rw [v.pp.1] at f1
    obtain ⟨i, hi6, rfl⟩ := inF_nI (by have := v.pp.2; omega) f1
    have hi9 : i < 6 := by have := v.pp.2; omega
    have am := actM (ac := ac) (k := k) q (m' := m)
    have am2 := actM (ac := ac) (k := k) q (m' := upd m (37 + 6 * i) 0)
    unfold rRow
    rw [nI_clamp (show i < 2 ^ 31 by omega)]
    refine r_aload_0 rfl ?_
    refine r_aload_0 rfl ?_
    refine r_iload_1 rfl ?_
    refine r_invvP_1 rfl (o) rfl rfl (by decide) (c_mIsPerson q _) ?_
    refine r_ifneT rfl (by rw [e1]; decide) ?_
    refine r_push rfl ?_
    refine r_puti rfl (o) rfl ?_
    rw [mo_0]
    refine r_aload_0 rfl ?_
    refine r_getf rfl (o3) (by rfl) ?_
    refine r_ifleT rfl (by rw [upd_eq]; decide) ?_
    refine r_aload_0 rfl ?_
    refine r_invvV rfl rfl (o3) rfl rfl (by decide) (c_rem q qa e6 hk) ?_
    refine r_aload_0 rfl ?_
    refine r_iload_1 rfl ?_
    refine r_push rfl ?_
    refine r_invvP_2 rfl (am.1) rfl rfl (by decide) (c_of4 am (by omega)) ?_
    refine r_istore_2 rfl ?_
    refine r_aload_0 rfl ?_
    refine r_iload_1 rfl ?_
    refine r_push rfl ?_
    refine r_push rfl ?_
    refine r_invvV rfl rfl (am.1) rfl rfl (by decide) (c_pt4 am (by omega)) ?_
    rw [act1]
    refine r_aload_0 rfl ?_
    refine r_iload_1 rfl ?_
    refine r_push rfl ?_
    refine r_push rfl ?_
    refine r_invvV rfl rfl (am2.1) rfl rfl (by decide) (c_pt5 am2 (by omega)) ?_
    refine r_iload_2 rfl ?_
    refine r_iret rfl ?_
    rw [act1]
    rfl
end
