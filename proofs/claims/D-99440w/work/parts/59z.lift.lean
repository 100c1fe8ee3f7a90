/-! ACTS of the model: lift -/
set_option maxRecDepth 100000
def liftR (m : Nat → Int32) (z : Nat) (p : Int32) : Nat → Int32 := upd (upd (tlF m (nI z) 5 (m (71 + 6 * z))) (72 + 6 * z) 0) (73 + 6 * z) p
def qLift (m : Nat → Int32) (z p : Int32) : Nat × Int32 := if inF z 0 (m 4 - 1) = false then (1, 0) else if inF p 0 (m 3 - 1) = false then (1, 0) else if m (72 + 6 * z.toNatClampNeg) ≠ 1 ∨ m (74 + 6 * z.toNatClampNeg) ≠ m (35 + 6 * p.toNatClampNeg) then (2, 0) else (0, loadF (liftR m z.toNatClampNeg p) p)
theorem tl_lo {m : Nat → Int32} {z w n : Int32} {k : Nat} (h : k < 129) (h7 : k ≠ 7) : tlF m z w n k = m k := by
  unfold tlF
  rw [if_neg h7, if_neg (by omega), if_neg (by omega), if_neg (by omega), if_neg (by omega), if_neg (by omega)]
theorem upd_self {m : Nat → Int32} {k : Nat} {v : Int32} (h : m k = v) : upd m k v = m := by
  funext j
  by_cases c : j = k
  · subst c; rw [upd_eq, h]
  · rw [upd_ne c]
theorem liftR_ok {m : Nat → Int32} (v : VR m) {z : Nat} (hz : z < nS m) {p : Int32} (hp : isB p (nP m)) : VR (liftR m z p) := by
  have hS := v.ss.2
  have v1 := v.tl (nI z) 5 (m (71 + 6 * z))
  have eS : nS (tlF m (nI z) 5 (m (71 + 6 * z))) = nS m := by unfold nS; rw [tl_lo (by decide) (by decide)]
  have eP : nP (tlF m (nI z) 5 (m (71 + 6 * z))) = nP m := by unfold nP; rw [tl_lo (by decide) (by decide)]
  have := v1.stone (s := z) (by rw [eS]; exact hz) (st := 0) (br := p) (at_ := upd (upd (tlF m (nI z) 5 (m (71 + 6 * z))) (72 + 6 * z) 0) (73 + 6 * z) p (74 + 6 * z)) ⟨0, by decide, rfl⟩ (fun _ => by rw [eP]; exact hp) (fun e => absurd e (by decide))
  rw [upd_self rfl] at this
  exact this
section
variable {G : am_G} {h : am_H} {y k : Nat} {m g ac : Nat → Int32}
theorem c_yLift (q : MM h y g m) (v : VR m) (qa : h.1 (y + 4) = some (.inl (0, 4428, .inl ac))) (e6 : g 6 = nI k) (hk : k ≤ 12) (z p : Int32) : Ac G 4 m_X6_lift [.ref y, .int z, .int p] h y g ac m (liftR m z.toNatClampNeg p) k (qLift m z p) := by
  have o := q.1
  have o1 := (q.thr (nI 1)).1; have o2 := (q.thr (nI 2)).1; have o3 := (q.thr (nI 0)).1
  refine wc_in mt_X6_lift rfl (L := [.ref y, .int z, .int p]) rfl ?_
  unfold qLift
  cases e1 : inF z 0 (m 4 - 1) with
  | false =>
    rw [if_pos rfl]
    refine r_aload_0 rfl ?_
    refine r_aload_0 rfl ?_
    refine r_iload_1 rfl ?_
    refine r_invvP_1 rfl (o) rfl rfl (by decide) (c_mIsStone q z) ?_
    refine r_ifeqT rfl (by rw [e1]; rfl) ?_
    refine r_push rfl ?_
    refine r_goto rfl ?_
    refine r_puti rfl (o) rfl ?_
    rw [mo_0]
    refine r_aload_0 rfl ?_
    refine r_getf rfl (o1) (by rfl) ?_
    refine r_ifleF rfl (by rw [upd_eq]; decide) ?_
    refine r_push rfl ?_
    refine r_iret rfl ?_
    rfl
  | true =>
    rw [if_neg (by decide)]
    cases e2 : inF p 0 (m 3 - 1) with
    | false =>
      rw [if_pos rfl]
      refine r_aload_0 rfl ?_
      refine r_aload_0 rfl ?_
      refine r_iload_1 rfl ?_
      refine r_invvP_1 rfl (o) rfl rfl (by decide) (c_mIsStone q z) ?_
      refine r_ifeqF rfl (by rw [e1]; decide) ?_
      refine r_aload_0 rfl ?_
      refine r_iload_2 rfl ?_
      refine r_invvP_1 rfl (o) rfl rfl (by decide) (c_mIsPerson q p) ?_
      refine r_ifneF rfl (by rw [e2]; rfl) ?_
      refine r_push rfl ?_
      refine r_goto rfl ?_
      refine r_puti rfl (o) rfl ?_
      rw [mo_0]
      refine r_aload_0 rfl ?_
      refine r_getf rfl (o1) (by rfl) ?_
      refine r_ifleF rfl (by rw [upd_eq]; decide) ?_
      refine r_push rfl ?_
      refine r_iret rfl ?_
      rfl
    | true =>
      rw [if_neg (by decide)]
      have f1 := e1
      have f2 := e2
      rw [v.ss.1] at f1
      rw [v.pp.1] at f2
      obtain ⟨i, hi6, rfl⟩ := inF_nI (by have := v.ss.2; omega) f1
      obtain ⟨j, hj6, rfl⟩ := inF_nI (by have := v.pp.2; omega) f2
      have hi9 : i < 10 := by have := v.ss.2; omega
      have hj9 : j < 6 := by have := v.pp.2; omega
      rw [nI_clamp (show i < 2 ^ 31 by omega), nI_clamp (show j < 2 ^ 31 by omega)]
      by_cases A : m (72 + 6 * i) = 1
      · by_cases B : m (74 + 6 * i) = m (35 + 6 * j)
        · rw [if_neg (fun w => w.elim (fun w => w A) (fun w => w B))]
          have a0 := actM (ac := ac) (k := k) q (m' := m)
          have a1 := actM (ac := ac) (k := k) q (m' := tlF m (nI i) 5 (m (71 + 6 * i)))
          have a2 := actM (ac := ac) (k := k) q (m' := upd (tlF m (nI i) 5 (m (71 + 6 * i))) (72 + 6 * i) 0)
          have a3 := actM (ac := ac) (k := k) q (m' := liftR m i (nI j))
          have v3 := liftR_ok v hi6 (p := nI j) ⟨j, hj6, rfl⟩
          refine r_aload_0 rfl ?_
          refine r_aload_0 rfl ?_
          refine r_iload_1 rfl ?_
          refine r_invvP_1 rfl (o) rfl rfl (by decide) (c_mIsStone q _) ?_
          refine r_ifeqF rfl (by rw [e1]; decide) ?_
          refine r_aload_0 rfl ?_
          refine r_iload_2 rfl ?_
          refine r_invvP_1 rfl (o) rfl rfl (by decide) (c_mIsPerson q _) ?_
          refine r_ifneT rfl (by rw [e2]; decide) ?_
          refine r_aload_0 rfl ?_
          refine r_iload_1 rfl ?_
          refine r_push rfl ?_
          refine r_invvP_2 rfl (o) rfl rfl (by decide) (c_os3 q (by omega)) ?_
          refine r_push rfl ?_
          refine r_icneF rfl (A) ?_
          refine r_aload_0 rfl ?_
          refine r_iload_1 rfl ?_
          refine r_push rfl ?_
          refine r_invvP_2 rfl (o) rfl rfl (by decide) (c_os5 q (by omega)) ?_
          refine r_aload_0 rfl ?_
          refine r_iload_2 rfl ?_
          refine r_push rfl ?_
          refine r_invvP_2 rfl (o) rfl rfl (by decide) (c_of2 q (by omega)) ?_
          refine r_iceqT rfl (B) ?_
          refine r_push rfl ?_
          refine r_puti rfl (o) rfl ?_
          rw [mo_0]
          refine r_aload_0 rfl ?_
          refine r_getf rfl (o3) (by rfl) ?_
          refine r_ifleT rfl (by rw [upd_eq]; decide) ?_
          refine r_aload_0 rfl ?_
          refine r_invvV rfl rfl (o3) rfl rfl (by decide) (c_rem q qa e6 hk) ?_
          refine r_aload_0 rfl ?_
          refine r_iload_1 rfl ?_
          refine r_push rfl ?_
          refine r_aload_0 rfl ?_
          refine r_iload_1 rfl ?_
          refine r_push rfl ?_
          refine r_invvP_2 rfl (a0.1) rfl rfl (by decide) (c_os2 a0 (by omega)) ?_
          refine r_invvV rfl rfl (a0.1) rfl rfl (by decide) (c_mlogs a0 _ _ _) ?_
          rw [act1]
          refine r_aload_0 rfl ?_
          refine r_iload_1 rfl ?_
          refine r_push rfl ?_
          refine r_push rfl ?_
          refine r_invvV rfl rfl (a1.1) rfl rfl (by decide) (c_ps3 a1 (by omega)) ?_
          rw [act1]
          refine r_aload_0 rfl ?_
          refine r_iload_1 rfl ?_
          refine r_push rfl ?_
          refine r_iload_2 rfl ?_
          refine r_invvV rfl rfl (a2.1) rfl rfl (by decide) (c_ps4 a2 (by omega)) ?_
          rw [act1]
          refine r_aload_0 rfl ?_
          refine r_iload_2 rfl ?_
          refine r_invvP_1 rfl (a3.1) rfl rfl (by decide) (c_mload a3 v3 _) ?_
          refine r_iret rfl ?_
          rfl
        · rw [if_pos (Or.inr B)]
          refine r_aload_0 rfl ?_
          refine r_aload_0 rfl ?_
          refine r_iload_1 rfl ?_
          refine r_invvP_1 rfl (o) rfl rfl (by decide) (c_mIsStone q _) ?_
          refine r_ifeqF rfl (by rw [e1]; decide) ?_
          refine r_aload_0 rfl ?_
          refine r_iload_2 rfl ?_
          refine r_invvP_1 rfl (o) rfl rfl (by decide) (c_mIsPerson q _) ?_
          refine r_ifneT rfl (by rw [e2]; decide) ?_
          refine r_aload_0 rfl ?_
          refine r_iload_1 rfl ?_
          refine r_push rfl ?_
          refine r_invvP_2 rfl (o) rfl rfl (by decide) (c_os3 q (by omega)) ?_
          refine r_push rfl ?_
          refine r_icneF rfl (A) ?_
          refine r_aload_0 rfl ?_
          refine r_iload_1 rfl ?_
          refine r_push rfl ?_
          refine r_invvP_2 rfl (o) rfl rfl (by decide) (c_os5 q (by omega)) ?_
          refine r_aload_0 rfl ?_
          refine r_iload_2 rfl ?_
          refine r_push rfl ?_
          refine r_invvP_2 rfl (o) rfl rfl (by decide) (c_of2 q (by omega)) ?_
          refine r_iceqF rfl (B) ?_
          refine r_push rfl ?_
          refine r_goto rfl ?_
          refine r_puti rfl (o) rfl ?_
          rw [mo_0]
          refine r_aload_0 rfl ?_
          refine r_getf rfl (o2) (by rfl) ?_
          refine r_ifleF rfl (by rw [upd_eq]; decide) ?_
          refine r_push rfl ?_
          refine r_iret rfl ?_
          rfl
      · rw [if_pos (Or.inl A)]
        refine r_aload_0 rfl ?_
        refine r_aload_0 rfl ?_
        refine r_iload_1 rfl ?_
        refine r_invvP_1 rfl (o) rfl rfl (by decide) (c_mIsStone q _) ?_
        refine r_ifeqF rfl (by rw [e1]; decide) ?_
        refine r_aload_0 rfl ?_
        refine r_iload_2 rfl ?_
        refine r_invvP_1 rfl (o) rfl rfl (by decide) (c_mIsPerson q _) ?_
        refine r_ifneT rfl (by rw [e2]; decide) ?_
        refine r_aload_0 rfl ?_
        refine r_iload_1 rfl ?_
        refine r_push rfl ?_
        refine r_invvP_2 rfl (o) rfl rfl (by decide) (c_os3 q (by omega)) ?_
        refine r_push rfl ?_
        refine r_icneT rfl (A) ?_
        refine r_push rfl ?_
        refine r_goto rfl ?_
        refine r_puti rfl (o) rfl ?_
        rw [mo_0]
        refine r_aload_0 rfl ?_
        refine r_getf rfl (o2) (by rfl) ?_
        refine r_ifleF rfl (by rw [upd_eq]; decide) ?_
        refine r_push rfl ?_
        refine r_iret rfl ?_
        rfl
end
