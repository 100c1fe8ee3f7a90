/-! ACTS of the model: pass -/
set_option maxRecDepth 100000
def passR (m : Nat → Int32) (z : Nat) (p : Int32) : Nat → Int32 := upd (tlF m (nI z) 3 (m (71 + 6 * z))) (73 + 6 * z) p
def qPass (m : Nat → Int32) (z p : Int32) : Nat × Int32 := if inF z 0 (m 4 - 1) = false then (1, 0) else if inF p 0 (m 3 - 1) = false then (1, 0) else if m (72 + 6 * z.toNatClampNeg) = 0 ∧ m (73 + 6 * z.toNatClampNeg) = p then (2, 0) else if ¬ (m (72 + 6 * z.toNatClampNeg) = 0 ∧ m (35 + 6 * p.toNatClampNeg) = m (35 + 6 * (m (73 + 6 * z.toNatClampNeg)).toNatClampNeg)) then (3, 0) else (0, m (73 + 6 * z.toNatClampNeg))
theorem passR_ok {m : Nat → Int32} (v : VR m) {z : Nat} (hz : z < nS m) (h0 : m (72 + 6 * z) = 0) {p : Int32} (hp : isB p (nP m)) : VR (passR m z p) := by
  have hS := v.ss.2
  have v1 := v.tl (nI z) 3 (m (71 + 6 * z))
  have eS : nS (tlF m (nI z) 3 (m (71 + 6 * z))) = nS m := by unfold nS; rw [tl_lo (by decide) (by decide)]
  have eP : nP (tlF m (nI z) 3 (m (71 + 6 * z))) = nP m := by unfold nP; rw [tl_lo (by decide) (by decide)]
  have := v1.stone (s := z) (by rw [eS]; exact hz) (st := 0) (br := p) (at_ := upd (upd (tlF m (nI z) 3 (m (71 + 6 * z))) (72 + 6 * z) 0) (73 + 6 * z) p (74 + 6 * z)) ⟨0, by decide, rfl⟩ (fun _ => by rw [eP]; exact hp) (fun e => absurd e (by decide))
  rw [upd_self rfl, upd_self (k := 72 + 6 * z) (by rw [tl_lo (by omega) (by omega)]; exact h0)] at this
  exact this
section
variable {G : am_G} {h : am_H} {y k : Nat} {m g ac : Nat → Int32}
theorem c_yPass (q : MM h y g m) (v : VR m) (qa : h.1 (y + 4) = some (.inl (0, 4428, .inl ac))) (e6 : g 6 = nI k) (hk : k ≤ 12) (z p : Int32) : Ac G 4 m_X6_pass [.ref y, .int z, .int p] h y g ac m (passR m z.toNatClampNeg p) k (qPass m z p) := by
  have o := q.1
  have o1 := (q.thr (nI 1)).1; have o2 := (q.thr (nI 2)).1; have o4 := (q.thr (nI 3)).1; have o3 := (q.thr (nI 0)).1
  have m3 := q.thr (nI 0)
  have u0 : ∀ w, upd (upd g 0 (nI 0)) 0 w = upd g 0 w := fun w => upd_upd
  refine wc_in mt_X6_pass rfl (L := [.ref y, .int z, .int p, am_un, am_un]) rfl ?_
  unfold qPass
  cases e1 : inF z 0 (m 4 - 1) with
  | false =>
    rw [if_pos rfl]
    refine r_aload_0 rfl ?_
    refine r_aload_0 rfl ?_
    refine r_iload_1 rfl ?_
    refine r_invvP_1 rfl (o) rfl rfl (by decide) (c_mIsStone q z) ?_
    refine r_ifeqT rfl (by rw [e1]; rfl) ?_
    refine r_push rfl ?_
    refine r_goto rfl ?_
    refine r_puti rfl (o) rfl ?_
    rw [mo_0]
    refine r_aload_0 rfl ?_
    refine r_getf rfl (o1) (by rfl) ?_
    refine r_ifleF rfl (by rw [upd_eq]; decide) ?_
    refine r_push rfl ?_
    refine r_iret rfl ?_
    rfl
  | true =>
    rw [if_neg (by decide)]
    cases e2 : inF p 0 (m 3 - 1) with
    | false =>
      rw [if_pos rfl]
      refine r_aload_0 rfl ?_
      refine r_aload_0 rfl ?_
      refine r_iload_1 rfl ?_
      refine r_invvP_1 rfl (o) rfl rfl (by decide) (c_mIsStone q z) ?_
      refine r_ifeqF rfl (by rw [e1]; decide) ?_
      refine r_aload_0 rfl ?_
      refine r_iload_2 rfl ?_
      refine r_invvP_1 rfl (o) rfl rfl (by decide) (c_mIsPerson q p) ?_
      refine r_ifneF rfl (by rw [e2]; rfl) ?_
      refine r_push rfl ?_
      refine r_goto rfl ?_
      refine r_puti rfl (o) rfl ?_
      rw [mo_0]
      refine r_aload_0 rfl ?_
      refine r_getf rfl (o1) (by rfl) ?_
      refine r_ifleF rfl (by rw [upd_eq]; decide) ?_
      refine r_push rfl ?_
      refine r_iret rfl ?_
      rfl
    | true =>
      rw [if_neg (by decide)]
      have f1 := e1
      have f2 := e2
      rw [v.ss.1] at f1
      rw [v.pp.1] at f2
      obtain ⟨i, hi6, rfl⟩ := inF_nI (by have := v.ss.2; omega) f1
      obtain ⟨j, hj6, rfl⟩ := inF_nI (by have := v.pp.2; omega) f2
      have hi9 : i < 10 := by have := v.ss.2; omega
      have hj9 : j < 6 := by have := v.pp.2; omega
      rw [nI_clamp (show i < 2 ^ 31 by omega), nI_clamp (show j < 2 ^ 31 by omega)]
      by_cases A : m (72 + 6 * i) = 0
      · obtain ⟨r, hr, er⟩ := (v.st i hi6).2.2.2.2.1 A
        have hr6 : r < 6 := by have := v.pp.2; omega
        by_cases B : m (73 + 6 * i) = nI j
        · rw [if_pos ⟨A, B⟩]
          refine r_aload_0 rfl ?_
          refine r_aload_0 rfl ?_
          refine r_iload_1 rfl ?_
          refine r_invvP_1 rfl (o) rfl rfl (by decide) (c_mIsStone q _) ?_
          refine r_ifeqF rfl (by rw [e1]; decide) ?_
          refine r_aload_0 rfl ?_
          refine r_iload_2 rfl ?_
          refine r_invvP_1 rfl (o) rfl rfl (by decide) (c_mIsPerson q _) ?_
          refine r_ifneT rfl (by rw [e2]; decide) ?_
          refine r_push rfl ?_
          refine r_puti rfl (o) rfl ?_
          rw [mo_0]
          refine r_aload_0 rfl ?_
          refine r_getf rfl (o3) (by rfl) ?_
          refine r_ifleT rfl (by rw [upd_eq]; decide) ?_
          refine r_aload_0 rfl ?_
          refine r_iload_1 rfl ?_
          refine r_push rfl ?_
          refine r_invvP_2 rfl (o3) rfl rfl (by decide) (c_os3 m3 (by omega)) ?_
          refine r_ifneF rfl (A) ?_
          refine r_push rfl ?_
          refine r_goto rfl ?_
          refine r_istore_3 rfl ?_
          refine r_aload_0 rfl ?_
          refine r_iload_1 rfl ?_
          refine r_push rfl ?_
          refine r_invvP_2 rfl (o3) rfl rfl (by decide) (c_os4 m3 (by omega)) ?_
          refine r_istore_4 rfl ?_
          refine r_aload_0 rfl ?_
          refine r_iload_3 rfl ?_
          refine r_ifeqF rfl (by decide) ?_
          refine r_iload_4 rfl ?_
          refine r_iload_2 rfl ?_
          refine r_icneF rfl (B) ?_
          refine r_push rfl ?_
          refine r_goto rfl ?_
          refine r_puti rfl (o3) rfl ?_
          rw [mo_0, am_set_set, upd_upd]
          refine r_aload_0 rfl ?_
          refine r_getf rfl (o2) (by rfl) ?_
          refine r_ifleF rfl (by rw [upd_eq]; decide) ?_
          refine r_push rfl ?_
          refine r_iret rfl ?_
          rfl
        · rw [if_neg (fun w => B w.2), er, nI_clamp (show r < 2 ^ 31 by omega)]
          by_cases C : m (35 + 6 * j) = m (35 + 6 * r)
          · rw [if_neg (fun w => w ⟨A, C⟩)]
            have a0 := actM (ac := ac) (k := k) q (m' := m)
            have a1 := actM (ac := ac) (k := k) q (m' := tlF m (nI i) 3 (m (71 + 6 * i)))
            refine r_aload_0 rfl ?_
            refine r_aload_0 rfl ?_
            refine r_iload_1 rfl ?_
            refine r_invvP_1 rfl (o) rfl rfl (by decide) (c_mIsStone q _) ?_
            refine r_ifeqF rfl (by rw [e1]; decide) ?_
            refine r_aload_0 rfl ?_
            refine r_iload_2 rfl ?_
            refine r_invvP_1 rfl (o) rfl rfl (by decide) (c_mIsPerson q _) ?_
            refine r_ifneT rfl (by rw [e2]; decide) ?_
            refine r_push rfl ?_
            refine r_puti rfl (o) rfl ?_
            rw [mo_0]
            refine r_aload_0 rfl ?_
            refine r_getf rfl (o3) (by rfl) ?_
            refine r_ifleT rfl (by rw [upd_eq]; decide) ?_
            refine r_aload_0 rfl ?_
            refine r_iload_1 rfl ?_
            refine r_push rfl ?_
            refine r_invvP_2 rfl (o3) rfl rfl (by decide) (c_os3 m3 (by omega)) ?_
            refine r_ifneF rfl (A) ?_
            refine r_push rfl ?_
            refine r_goto rfl ?_
            refine r_istore_3 rfl ?_
            refine r_aload_0 rfl ?_
            refine r_iload_1 rfl ?_
            refine r_push rfl ?_
            refine r_invvP_2 rfl (o3) rfl rfl (by decide) (c_os4 m3 (by omega)) ?_
            rw [er]
            refine r_istore_4 rfl ?_
            refine r_aload_0 rfl ?_
            refine r_iload_3 rfl ?_
            refine r_ifeqF rfl (by decide) ?_
            refine r_iload_4 rfl ?_
            refine r_iload_2 rfl ?_
            refine r_icneT rfl (by rw [← er]; exact B) ?_
            refine r_iload_3 rfl ?_
            refine r_ifeqF rfl (by decide) ?_
            refine r_aload_0 rfl ?_
            refine r_iload_2 rfl ?_
            refine r_push rfl ?_
            refine r_invvP_2 rfl (o3) rfl rfl (by decide) (c_of2 m3 (by omega)) ?_
            refine r_aload_0 rfl ?_
            refine r_iload_4 rfl ?_
            refine r_push rfl ?_
            refine r_invvP_2 rfl (o3) rfl rfl (by decide) (c_of2 m3 (by omega)) ?_
            refine r_iceqT rfl (C) ?_
            refine r_push rfl ?_
            refine r_puti rfl (o3) rfl ?_
            rw [mo_0, am_set_set, upd_upd]
            refine r_aload_0 rfl ?_
            refine r_getf rfl (o3) (by rfl) ?_
            refine r_ifleT rfl (by rw [upd_eq]; decide) ?_
            refine r_aload_0 rfl ?_
            refine r_invvV rfl rfl (o3) rfl rfl (by decide) (c_rem q qa e6 hk) ?_
            refine r_aload_0 rfl ?_
            refine r_iload_1 rfl ?_
            refine r_push rfl ?_
            refine r_aload_0 rfl ?_
            refine r_iload_1 rfl ?_
            refine r_push rfl ?_
            refine r_invvP_2 rfl (a0.1) rfl rfl (by decide) (c_os2 a0 (by omega)) ?_
            refine r_invvV rfl rfl (a0.1) rfl rfl (by decide) (c_mlogs a0 _ _ _) ?_
            rw [act1]
            refine r_aload_0 rfl ?_
            refine r_iload_1 rfl ?_
            refine r_push rfl ?_
            refine r_iload_2 rfl ?_
            refine r_invvV rfl rfl (a1.1) rfl rfl (by decide) (c_ps4 a1 (by omega)) ?_
            rw [act1]
            refine r_iload_4 rfl ?_
            refine r_iret rfl ?_
            rfl
          · rw [if_pos (fun w => C w.2)]
            refine r_aload_0 rfl ?_
            refine r_aload_0 rfl ?_
            refine r_iload_1 rfl ?_
            refine r_invvP_1 rfl (o) rfl rfl (by decide) (c_mIsStone q _) ?_
            refine r_ifeqF rfl (by rw [e1]; decide) ?_
            refine r_aload_0 rfl ?_
            refine r_iload_2 rfl ?_
            refine r_invvP_1 rfl (o) rfl rfl (by decide) (c_mIsPerson q _) ?_
            refine r_ifneT rfl (by rw [e2]; decide) ?_
            refine r_push rfl ?_
            refine r_puti rfl (o) rfl ?_
            rw [mo_0]
            refine r_aload_0 rfl ?_
            refine r_getf rfl (o3) (by rfl) ?_
            refine r_ifleT rfl (by rw [upd_eq]; decide) ?_
            refine r_aload_0 rfl ?_
            refine r_iload_1 rfl ?_
            refine r_push rfl ?_
            refine r_invvP_2 rfl (o3) rfl rfl (by decide) (c_os3 m3 (by omega)) ?_
            refine r_ifneF rfl (A) ?_
            refine r_push rfl ?_
            refine r_goto rfl ?_
            refine r_istore_3 rfl ?_
            refine r_aload_0 rfl ?_
            refine r_iload_1 rfl ?_
            refine r_push rfl ?_
            refine r_invvP_2 rfl (o3) rfl rfl (by decide) (c_os4 m3 (by omega)) ?_
            rw [er]
            refine r_istore_4 rfl ?_
            refine r_aload_0 rfl ?_
            refine r_iload_3 rfl ?_
            refine r_ifeqF rfl (by decide) ?_
            refine r_iload_4 rfl ?_
            refine r_iload_2 rfl ?_
            refine r_icneT rfl (by rw [← er]; exact B) ?_
            refine r_iload_3 rfl ?_
            refine r_ifeqF rfl (by decide) ?_
            refine r_aload_0 rfl ?_
            refine r_iload_2 rfl ?_
            refine r_push rfl ?_
            refine r_invvP_2 rfl (o3) rfl rfl (by decide) (c_of2 m3 (by omega)) ?_
            refine r_aload_0 rfl ?_
            refine r_iload_4 rfl ?_
            refine r_push rfl ?_
            refine r_invvP_2 rfl (o3) rfl rfl (by decide) (c_of2 m3 (by omega)) ?_
            refine r_iceqF rfl (C) ?_
            refine r_push rfl ?_
            refine r_goto rfl ?_
            refine r_puti rfl (o3) rfl ?_
            rw [mo_0, am_set_set, upd_upd]
            refine r_aload_0 rfl ?_
            refine r_getf rfl (o4) (by rfl) ?_
            refine r_ifleF rfl (by rw [upd_eq]; decide) ?_
            refine r_push rfl ?_
            refine r_iret rfl ?_
            rfl
      · rw [if_neg (fun w => A w.1), if_pos (fun w => A w.1)]
        refine r_aload_0 rfl ?_
        refine r_aload_0 rfl ?_
        refine r_iload_1 rfl ?_
        refine r_invvP_1 rfl (o) rfl rfl (by decide) (c_mIsStone q _) ?_
        refine r_ifeqF rfl (by rw [e1]; decide) ?_
        refine r_aload_0 rfl ?_
        refine r_iload_2 rfl ?_
        refine r_invvP_1 rfl (o) rfl rfl (by decide) (c_mIsPerson q _) ?_
        refine r_ifneT rfl (by rw [e2]; decide) ?_
        refine r_push rfl ?_
        refine r_puti rfl (o) rfl ?_
        rw [mo_0]
        refine r_aload_0 rfl ?_
        refine r_getf rfl (o3) (by rfl) ?_
        refine r_ifleT rfl (by rw [upd_eq]; decide) ?_
        refine r_aload_0 rfl ?_
        refine r_iload_1 rfl ?_
        refine r_push rfl ?_
        refine r_invvP_2 rfl (o3) rfl rfl (by decide) (c_os3 m3 (by omega)) ?_
        refine r_ifneT rfl (A) ?_
        refine r_push rfl ?_
        refine r_istore_3 rfl ?_
        refine r_aload_0 rfl ?_
        refine r_iload_1 rfl ?_
        refine r_push rfl ?_
        refine r_invvP_2 rfl (o3) rfl rfl (by decide) (c_os4 m3 (by omega)) ?_
        refine r_istore_4 rfl ?_
        refine r_aload_0 rfl ?_
        refine r_iload_3 rfl ?_
        refine r_ifeqT rfl (rfl) ?_
        refine r_iload_3 rfl ?_
        refine r_ifeqT rfl (rfl) ?_
        refine r_push rfl ?_
        refine r_goto rfl ?_
        refine r_puti rfl (o3) rfl ?_
        rw [mo_0, am_set_set, upd_upd]
        refine r_aload_0 rfl ?_
        refine r_getf rfl (o4) (by rfl) ?_
        refine r_ifleF rfl (by rw [upd_eq]; decide) ?_
        refine r_push rfl ?_
        refine r_iret rfl ?_
        rfl
end
