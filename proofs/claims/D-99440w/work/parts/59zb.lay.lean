/-! ACTS of the model: lay -/
set_option maxRecDepth 100000
def layR (m : Nat → Int32) (z : Nat) (t : Int32) : Nat → Int32 := upd (upd (tlF m (nI z) 4 (m (71 + 6 * z))) (72 + 6 * z) 1) (74 + 6 * z) t
/-- the place of who wears a stone -/
def bpF (m : Nat → Int32) (z : Nat) : Int32 := m (35 + 6 * (m (73 + 6 * z)).toNatClampNeg)
def qLay (m : Nat → Int32) (z : Int32) : Nat × Int32 := if inF z 0 (m 4 - 1) = false then (1, 0) else if ¬ m (72 + 6 * z.toNatClampNeg) = 0 then (2, 0) else if m (21 + (bpF m z.toNatClampNeg).toNatClampNeg) = 0 ∧ ¬ m (35 + 6 * (m (70 + 6 * z.toNatClampNeg)).toNatClampNeg) = bpF m z.toNatClampNeg then (2, 0) else (0, bpF m z.toNatClampNeg)
theorem layR_ok {m : Nat → Int32} (v : VR m) {z : Nat} (hz : z < nS m) {t : Int32} (ht : isB t 12) : VR (layR m z t) := by
  have hS := v.ss.2
  have v1 := v.tl (nI z) 4 (m (71 + 6 * z))
  have eS : nS (tlF m (nI z) 4 (m (71 + 6 * z))) = nS m := by unfold nS; rw [tl_lo (by decide) (by decide)]
  have := v1.stone (s := z) (by rw [eS]; exact hz) (st := 1) (br := upd (tlF m (nI z) 4 (m (71 + 6 * z))) (72 + 6 * z) 1 (73 + 6 * z)) (at_ := t) ⟨1, by decide, rfl⟩ (fun e => absurd e (by decide)) (fun _ => ht)
  rw [upd_self (k := 73 + 6 * z) rfl] at this
  exact this
section
variable {G : am_G} {h : am_H} {y k : Nat} {m g ac : Nat → Int32}
theorem c_yLay (q : MM h y g m) (v : VR m) (qa : h.1 (y + 4) = some (.inl (0, 4428, .inl ac))) (e6 : g 6 = nI k) (hk : k ≤ 12) (z : Int32) : Ac G 4 m_X6_lay [.ref y, .int z] h y g ac m (layR m z.toNatClampNeg (bpF m z.toNatClampNeg)) k (qLay m z) := by
  have o := q.1
  have o1 := (q.thr (nI 1)).1; have o2 := (q.thr (nI 2)).1; have o3 := (q.thr (nI 0)).1
  have m3 := q.thr (nI 0)
  have r3 := m3.2
  refine wc_in mt_X6_lay rfl (L := [.ref y, .int z, am_un]) rfl ?_
  unfold qLay
  cases e1 : inF z 0 (m 4 - 1) with
  | false =>
    rw [if_pos rfl]
    refine r_aload_0 rfl ?_
    refine r_aload_0 rfl ?_
    refine r_iload_1 rfl ?_
    refine r_invvP_1 rfl (o) rfl rfl (by decide) (c_mIsStone q z) ?_
    refine r_ifneF rfl (by rw [e1]; rfl) ?_
    refine r_push rfl ?_
    refine r_goto rfl ?_
    refine r_puti rfl (o) rfl ?_
    rw [mo_0]
    refine r_aload_0 rfl ?_
    refine r_getf rfl (o1) (by rfl) ?_
    refine r_ifleF rfl (by rw [upd_eq]; decide) ?_
    refine r_push rfl ?_
    refine r_iret rfl ?_
    rfl
  | true =>
    rw [if_neg (by decide)]
    have f1 := e1
    rw [v.ss.1] at f1
    obtain ⟨i, hi6, rfl⟩ := inF_nI (by have := v.ss.2; omega) f1
    have hi9 : i < 10 := by have := v.ss.2; omega
    have hP := v.pp.2
    rw [nI_clamp (show i < 2 ^ 31 by omega)]
    by_cases A : m (72 + 6 * i) = 0
    · rw [if_neg (fun w => w A)]
      obtain ⟨-, ⟨d, hd, ed⟩, -, -, w5, -⟩ := v.st i hi6
      obtain ⟨r, hr, er⟩ := w5 A
      obtain ⟨t, ht, et⟩ := (v.pe r hr).1
      have eb : bpF m i = nI t := by unfold bpF; rw [er, nI_clamp (by omega)]; exact et
      rw [eb, ed, nI_clamp (show t < 2 ^ 31 by omega), nI_clamp (show d < 2 ^ 31 by omega)]
      have a0 := actM (ac := ac) (k := k) q (m' := m)
      have a1 := actM (ac := ac) (k := k) q (m' := tlF m (nI i) 4 (m (71 + 6 * i)))
      have a2 := actM (ac := ac) (k := k) q (m' := upd (tlF m (nI i) 4 (m (71 + 6 * i))) (72 + 6 * i) 1)
      by_cases B : m (21 + t) = 0
      · by_cases C : m (35 + 6 * d) = nI t
        · rw [if_neg (fun w => w.2 C)]
          refine r_aload_0 rfl ?_
          refine r_aload_0 rfl ?_
          refine r_iload_1 rfl ?_
          refine r_invvP_1 rfl (o) rfl rfl (by decide) (c_mIsStone q _) ?_
          refine r_ifneT rfl (by rw [e1]; decide) ?_
          refine r_aload_0 rfl ?_
          refine r_iload_1 rfl ?_
          refine r_push rfl ?_
          refine r_invvP_2 rfl (o) rfl rfl (by decide) (c_os3 q (by omega)) ?_
          refine r_ifeqT rfl (A) ?_
          refine r_push rfl ?_
          refine r_puti rfl (o) rfl ?_
          rw [mo_0]
          refine r_aload_0 rfl ?_
          refine r_getf rfl (o3) (by rfl) ?_
          refine r_ifleT rfl (by rw [upd_eq]; decide) ?_
          refine r_aload_0 rfl ?_
          refine r_aload_0 rfl ?_
          refine r_iload_1 rfl ?_
          refine r_push rfl ?_
          refine r_invvP_2 rfl (o3) rfl rfl (by decide) (c_os4 m3 (by omega)) ?_
          rw [er]
          refine r_push rfl ?_
          refine r_invvP_2 rfl (o3) rfl rfl (by decide) (c_of2 m3 (by omega)) ?_
          rw [et]
          refine r_istore_2 rfl ?_
          refine r_aload_0 rfl ?_
          refine r_aload_0 rfl ?_
          refine r_getf rfl (o3) (by rfl) ?_
          refine r_push rfl ?_
          refine r_iload_2 rfl ?_
          refine r_iadd rfl ?_
          refine r_iald rfl (r3) (nI_add 21 t) (by first | assumption | omega) (by first | decide | omega) ?_
          refine r_ifneF rfl (B) ?_
          refine r_aload_0 rfl ?_
          refine r_aload_0 rfl ?_
          refine r_iload_1 rfl ?_
          refine r_push rfl ?_
          refine r_invvP_2 rfl (o3) rfl rfl (by decide) (c_os1 m3 (by omega)) ?_
          rw [ed]
          refine r_push rfl ?_
          refine r_invvP_2 rfl (o3) rfl rfl (by decide) (c_of2 m3 (by omega)) ?_
          refine r_iload_2 rfl ?_
          refine r_iceqT rfl (C) ?_
          refine r_push rfl ?_
          refine r_puti rfl (o3) rfl ?_
          rw [mo_0, am_set_set, upd_upd]
          refine r_aload_0 rfl ?_
          refine r_getf rfl (o3) (by rfl) ?_
          refine r_ifleT rfl (by rw [upd_eq]; decide) ?_
          refine r_aload_0 rfl ?_
          refine r_invvV rfl rfl (o3) rfl rfl (by decide) (c_rem q qa e6 hk) ?_
          refine r_aload_0 rfl ?_
          refine r_iload_1 rfl ?_
          refine r_push rfl ?_
          refine r_aload_0 rfl ?_
          refine r_iload_1 rfl ?_
          refine r_push rfl ?_
          refine r_invvP_2 rfl (a0.1) rfl rfl (by decide) (c_os2 a0 (by omega)) ?_
          refine r_invvV rfl rfl (a0.1) rfl rfl (by decide) (c_mlogs a0 _ _ _) ?_
          rw [act1]
          refine r_aload_0 rfl ?_
          refine r_iload_1 rfl ?_
          refine r_push rfl ?_
          refine r_push rfl ?_
          refine r_invvV rfl rfl (a1.1) rfl rfl (by decide) (c_ps3 a1 (by omega)) ?_
          rw [act1]
          refine r_aload_0 rfl ?_
          refine r_iload_1 rfl ?_
          refine r_push rfl ?_
          refine r_iload_2 rfl ?_
          refine r_invvV rfl rfl (a2.1) rfl rfl (by decide) (c_ps5 a2 (by omega)) ?_
          rw [act1]
          refine r_iload_2 rfl ?_
          refine r_iret rfl ?_
          rfl
        · rw [if_pos ⟨B, C⟩]
          refine r_aload_0 rfl ?_
          refine r_aload_0 rfl ?_
          refine r_iload_1 rfl ?_
          refine r_invvP_1 rfl (o) rfl rfl (by decide) (c_mIsStone q _) ?_
          refine r_ifneT rfl (by rw [e1]; decide) ?_
          refine r_aload_0 rfl ?_
          refine r_iload_1 rfl ?_
          refine r_push rfl ?_
          refine r_invvP_2 rfl (o) rfl rfl (by decide) (c_os3 q (by omega)) ?_
          refine r_ifeqT rfl (A) ?_
          refine r_push rfl ?_
          refine r_puti rfl (o) rfl ?_
          rw [mo_0]
          refine r_aload_0 rfl ?_
          refine r_getf rfl (o3) (by rfl) ?_
          refine r_ifleT rfl (by rw [upd_eq]; decide) ?_
          refine r_aload_0 rfl ?_
          refine r_aload_0 rfl ?_
          refine r_iload_1 rfl ?_
          refine r_push rfl ?_
          refine r_invvP_2 rfl (o3) rfl rfl (by decide) (c_os4 m3 (by omega)) ?_
          rw [er]
          refine r_push rfl ?_
          refine r_invvP_2 rfl (o3) rfl rfl (by decide) (c_of2 m3 (by omega)) ?_
          rw [et]
          refine r_istore_2 rfl ?_
          refine r_aload_0 rfl ?_
          refine r_aload_0 rfl ?_
          refine r_getf rfl (o3) (by rfl) ?_
          refine r_push rfl ?_
          refine r_iload_2 rfl ?_
          refine r_iadd rfl ?_
          refine r_iald rfl (r3) (nI_add 21 t) (by first | assumption | omega) (by first | decide | omega) ?_
          refine r_ifneF rfl (B) ?_
          refine r_aload_0 rfl ?_
          refine r_aload_0 rfl ?_
          refine r_iload_1 rfl ?_
          refine r_push rfl ?_
          refine r_invvP_2 rfl (o3) rfl rfl (by decide) (c_os1 m3 (by omega)) ?_
          rw [ed]
          refine r_push rfl ?_
          refine r_invvP_2 rfl (o3) rfl rfl (by decide) (c_of2 m3 (by omega)) ?_
          refine r_iload_2 rfl ?_
          refine r_iceqF rfl (C) ?_
          refine r_push rfl ?_
          refine r_goto rfl ?_
          refine r_puti rfl (o3) rfl ?_
          rw [mo_0, am_set_set, upd_upd]
          refine r_aload_0 rfl ?_
          refine r_getf rfl (o2) (by rfl) ?_
          refine r_ifleF rfl (by rw [upd_eq]; decide) ?_
          refine r_push rfl ?_
          refine r_iret rfl ?_
          rfl
      · rw [if_neg (fun w => B w.1)]
        refine r_aload_0 rfl ?_
        refine r_aload_0 rfl ?_
        refine r_iload_1 rfl ?_
        refine r_invvP_1 rfl (o) rfl rfl (by decide) (c_mIsStone q _) ?_
        refine r_ifneT rfl (by rw [e1]; decide) ?_
        refine r_aload_0 rfl ?_
        refine r_iload_1 rfl ?_
        refine r_push rfl ?_
        refine r_invvP_2 rfl (o) rfl rfl (by decide) (c_os3 q (by omega)) ?_
        refine r_ifeqT rfl (A) ?_
        refine r_push rfl ?_
        refine r_puti rfl (o) rfl ?_
        rw [mo_0]
        refine r_aload_0 rfl ?_
        refine r_getf rfl (o3) (by rfl) ?_
        refine r_ifleT rfl (by rw [upd_eq]; decide) ?_
        refine r_aload_0 rfl ?_
        refine r_aload_0 rfl ?_
        refine r_iload_1 rfl ?_
        refine r_push rfl ?_
        refine r_invvP_2 rfl (o3) rfl rfl (by decide) (c_os4 m3 (by omega)) ?_
        rw [er]
        refine r_push rfl ?_
        refine r_invvP_2 rfl (o3) rfl rfl (by decide) (c_of2 m3 (by omega)) ?_
        rw [et]
        refine r_istore_2 rfl ?_
        refine r_aload_0 rfl ?_
        refine r_aload_0 rfl ?_
        refine r_getf rfl (o3) (by rfl) ?_
        refine r_push rfl ?_
        refine r_iload_2 rfl ?_
        refine r_iadd rfl ?_
        refine r_iald rfl (r3) (nI_add 21 t) (by first | assumption | omega) (by first | decide | omega) ?_
        refine r_ifneT rfl (B) ?_
        refine r_push rfl ?_
        refine r_puti rfl (o3) rfl ?_
        rw [mo_0, am_set_set, upd_upd]
        refine r_aload_0 rfl ?_
        refine r_getf rfl (o3) (by rfl) ?_
        refine r_ifleT rfl (by rw [upd_eq]; decide) ?_
        refine r_aload_0 rfl ?_
        refine r_invvV rfl rfl (o3) rfl rfl (by decide) (c_rem q qa e6 hk) ?_
        refine r_aload_0 rfl ?_
        refine r_iload_1 rfl ?_
        refine r_push rfl ?_
        refine r_aload_0 rfl ?_
        refine r_iload_1 rfl ?_
        refine r_push rfl ?_
        refine r_invvP_2 rfl (a0.1) rfl rfl (by decide) (c_os2 a0 (by omega)) ?_
        refine r_invvV rfl rfl (a0.1) rfl rfl (by decide) (c_mlogs a0 _ _ _) ?_
        rw [act1]
        refine r_aload_0 rfl ?_
        refine r_iload_1 rfl ?_
        refine r_push rfl ?_
        refine r_push rfl ?_
        refine r_invvV rfl rfl (a1.1) rfl rfl (by decide) (c_ps3 a1 (by omega)) ?_
        rw [act1]
        refine r_aload_0 rfl ?_
        refine r_iload_1 rfl ?_
        refine r_push rfl ?_
        refine r_iload_2 rfl ?_
        refine r_invvV rfl rfl (a2.1) rfl rfl (by decide) (c_ps5 a2 (by omega)) ?_
        rw [act1]
        refine r_iload_2 rfl ?_
        refine r_iret rfl ?_
        rfl
    · rw [if_pos A]
      refine r_aload_0 rfl ?_
      refine r_aload_0 rfl ?_
      refine r_iload_1 rfl ?_
      refine r_invvP_1 rfl (o) rfl rfl (by decide) (c_mIsStone q _) ?_
      refine r_ifneT rfl (by rw [e1]; decide) ?_
      refine r_aload_0 rfl ?_
      refine r_iload_1 rfl ?_
      refine r_push rfl ?_
      refine r_invvP_2 rfl (o) rfl rfl (by decide) (c_os3 q (by omega)) ?_
      refine r_ifeqF rfl (A) ?_
      refine r_push rfl ?_
      refine r_goto rfl ?_
      refine r_puti rfl (o) rfl ?_
      rw [mo_0]
      refine r_aload_0 rfl ?_
      refine r_getf rfl (o2) (by rfl) ?_
      refine r_ifleF rfl (by rw [upd_eq]; decide) ?_
      refine r_push rfl ?_
      refine r_iret rfl ?_
      rfl
end
