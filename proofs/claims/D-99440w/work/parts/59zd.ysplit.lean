/-! ACTS of the model: split, hours -/
set_option maxRecDepth 100000
/-- broken: the row -/
def cpS (m : Nat → Int32) (z : Nat) (w : Int32) : Nat → Int32 := cpN (tlF m (nI z) 2 w) (tlF m (nI z) 2 w) (69 + 6 * z) (69 + 6 * nS m) 6
def splR (m : Nat → Int32) (z : Nat) : Nat → Int32 := upd (upd (upd (cpS m z (m (71 + 6 * z))) (71 + 6 * nS m) (m (71 + 6 * z) / 2)) (71 + 6 * z) (m (71 + 6 * z) - m (71 + 6 * z) / 2)) 4 (m 4 + 1)
def qSplit (m : Nat → Int32) (z : Int32) : Nat × Int32 := if inF z 0 (m 4 - 1) = false then (1, 0) else if m (72 + 6 * z.toNatClampNeg) = 2 ∨ m (71 + 6 * z.toNatClampNeg) = 1 ∨ m 4 = 10 then (2, 0) else (0, m 4)
theorem half {w : Int32} (h : isB w 41) (h0 : w ≠ 0) (h1 : w ≠ 1) : (isB (w / 2) 41 ∧ w / 2 ≠ 0) ∧ isB (w - w / 2) 41 ∧ w - w / 2 ≠ 0 := by
  obtain ⟨i, hi, rfl⟩ := h
  have e : nI i / 2 = nI (i / 2) := by
    have : ∀ i, i < 41 → nI i / 2 = nI (i / 2) := by decide +kernel
    exact this i hi
  have hi0 : i ≠ 0 := fun z => h0 (by rw [z]; rfl)
  have hi1 : i ≠ 1 := fun z => h1 (by rw [z]; rfl)
  rw [e, nI_sub (by omega)]
  have ne : ∀ {k : Nat}, k < 41 → k ≠ 0 → nI k ≠ 0 := fun hk z e => z (nI_inj (by omega) (by decide) e)
  exact ⟨⟨⟨_, by omega, rfl⟩, ne (by omega) (by omega)⟩, ⟨_, by omega, rfl⟩, ne (by omega) (by omega)⟩
theorem cpS_at {m : Nat → Int32} {z : Nat} {w : Int32} (k : Nat) : cpS m z w k = if 69 + 6 * nS m ≤ k ∧ k < 69 + 6 * nS m + 6 then tlF m (nI z) 2 w (69 + 6 * z + (k - (69 + 6 * nS m))) else tlF m (nI z) 2 w k := cpN_at _ _
theorem splR_ok {m : Nat → Int32} (v : VR m) {z : Nat} (hz : z < nS m) (hs : nS m < 10) (h1 : m (71 + 6 * z) ≠ 1) : VR (splR m z) := by
  obtain ⟨w1, w2, ⟨w3, w4⟩, w5, w6, w7⟩ := v.st z hz
  obtain ⟨⟨k1, k2⟩, k3, k4⟩ := half w3 w4 h1
  have eS : nS (upd (tlF m (nI z) 2 (m (71 + 6 * z))) (71 + 6 * z) (m (71 + 6 * z) - m (71 + 6 * z) / 2)) = nS m := by unfold nS; rw [upd_ne (by omega), tl_lo (by decide) (by decide)]
  have eP : nP (upd (tlF m (nI z) 2 (m (71 + 6 * z))) (71 + 6 * z) (m (71 + 6 * z) - m (71 + 6 * z) / 2)) = nP m := by unfold nP; rw [upd_ne (by omega), tl_lo (by decide) (by decide)]
  have v1 : VR (upd (tlF m (nI z) 2 (m (71 + 6 * z))) (71 + 6 * z) (m (71 + 6 * z) - m (71 + 6 * z) / 2)) := (v.tl _ _ _).u (Or.inr (Or.inr (Or.inr (Or.inr ⟨by omega, by omega, by omega, k3, k4⟩))))
  have at_ : ∀ j, j < 6 → j ≠ 2 → splR m z (69 + 6 * nS m + j) = m (69 + 6 * z + j) := fun j hj h2 => by
    unfold splR
    rw [upd_ne (by omega), upd_ne (by omega), upd_ne (by omega), cpS_at, if_pos (by omega), tl_lo (by omega) (by omega)]
    congr 1
    omega
  have a2 : splR m z (71 + 6 * nS m) = m (71 + 6 * z) / 2 := by
    unfold splR
    rw [upd_ne (by omega), upd_ne (by omega), upd_eq]
  refine v1.more eS hs (fun k hk h4 => ?_) (by unfold splR; rw [upd_eq, v.ss.1, nI_1]) ?_
  · unfold splR
    rw [upd_ne h4]
    by_cases c : k = 71 + 6 * z
    · subst c; rw [upd_eq, upd_eq]
    · rw [upd_ne c, upd_ne c, upd_ne (by omega), cpS_at, if_neg (by omega)]
  · have b0 := at_ 0 (by decide) (by decide)
    have b1 := at_ 1 (by decide) (by decide)
    have b3 := at_ 3 (by decide) (by decide)
    have b4 := at_ 4 (by decide) (by decide)
    have b5 := at_ 5 (by decide) (by decide)
    have f : ∀ k, k + 69 + 6 * nS m = 69 + 6 * nS m + k := fun k => by omega
    rw [show 70 + 6 * nS m = 69 + 6 * nS m + 1 by omega, show 72 + 6 * nS m = 69 + 6 * nS m + 3 by omega, show 73 + 6 * nS m = 69 + 6 * nS m + 4 by omega, show 74 + 6 * nS m = 69 + 6 * nS m + 5 by omega, a2, eP, b1, b3, b4, b5, show splR m z (69 + 6 * nS m) = m (69 + 6 * z) from b0]
    rw [show 69 + 6 * z + 1 = 70 + 6 * z by omega, show 69 + 6 * z + 3 = 72 + 6 * z by omega, show 69 + 6 * z + 4 = 73 + 6 * z by omega, show 69 + 6 * z + 5 = 74 + 6 * z by omega]
    exact ⟨w1, w2, ⟨k1, k2⟩, w5, w6, w7⟩
section
variable {G : am_G} {h : am_H} {y k : Nat} {m g ac : Nat → Int32}
theorem c_ySplit (q : MM h y g m) (v : VR m) (qa : h.1 (y + 4) = some (.inl (0, 4428, .inl ac))) (e6 : g 6 = nI k) (hk : k ≤ 12) (z : Int32) : Ac G 4 m_X6_split [.ref y, .int z] h y g ac m (splR m z.toNatClampNeg) k (qSplit m z) := by
  have o := q.1; have oo := q.2
  have o1 := (q.thr (nI 1)).1; have o2 := (q.thr (nI 2)).1; have o3 := (q.thr (nI 0)).1
  refine wc_in mt_X6_split rfl (L := [.ref y, .int z, am_un, am_un, am_un]) rfl ?_
  unfold qSplit
  cases e1 : inF z 0 (m 4 - 1) with
  | false =>
    rw [if_pos rfl]
    refine r_aload_0 rfl ?_
    refine r_aload_0 rfl ?_
    refine r_iload_1 rfl ?_
    refine r_invvP_1 rfl (o) rfl rfl (by decide) (c_mIsStone q z) ?_
    refine r_ifneF rfl (by rw [e1]; rfl) ?_
    refine r_push rfl ?_
    refine r_goto rfl ?_
    refine r_puti rfl (o) rfl ?_
    rw [mo_0]
    refine r_aload_0 rfl ?_
    refine r_getf rfl (o1) (by rfl) ?_
    refine r_ifleF rfl (by rw [upd_eq]; decide) ?_
    refine r_push rfl ?_
    refine r_iret rfl ?_
    rfl
  | true =>
    rw [if_neg (by decide)]
    have f1 := e1
    rw [v.ss.1] at f1
    have hS := v.ss.2
    obtain ⟨i, hi6, rfl⟩ := inF_nI (by omega) f1
    have hi9 : i < 10 := by omega
    rw [nI_clamp (show i < 2 ^ 31 by omega)]
    by_cases A : m (72 + 6 * i) = 2
    · rw [if_pos (Or.inl A)]
      refine r_aload_0 rfl ?_
      refine r_aload_0 rfl ?_
      refine r_iload_1 rfl ?_
      refine r_invvP_1 rfl (o) rfl rfl (by decide) (c_mIsStone q _) ?_
      refine r_ifneT rfl (by rw [e1]; decide) ?_
      refine r_aload_0 rfl ?_
      refine r_iload_1 rfl ?_
      refine r_push rfl ?_
      refine r_invvP_2 rfl (o) rfl rfl (by decide) (c_os3 q (by omega)) ?_
      refine r_push rfl ?_
      refine r_iceqT rfl (A) ?_
      refine r_push rfl ?_
      refine r_goto rfl ?_
      refine r_puti rfl (o) rfl ?_
      rw [mo_0]
      refine r_aload_0 rfl ?_
      refine r_getf rfl (o2) (by rfl) ?_
      refine r_ifleF rfl (by rw [upd_eq]; decide) ?_
      refine r_push rfl ?_
      refine r_iret rfl ?_
      rfl
    · by_cases B : m (71 + 6 * i) = 1
      · rw [if_pos (Or.inr (Or.inl B))]
        refine r_aload_0 rfl ?_
        refine r_aload_0 rfl ?_
        refine r_iload_1 rfl ?_
        refine r_invvP_1 rfl (o) rfl rfl (by decide) (c_mIsStone q _) ?_
        refine r_ifneT rfl (by rw [e1]; decide) ?_
        refine r_aload_0 rfl ?_
        refine r_iload_1 rfl ?_
        refine r_push rfl ?_
        refine r_invvP_2 rfl (o) rfl rfl (by decide) (c_os3 q (by omega)) ?_
        refine r_push rfl ?_
        refine r_iceqF rfl (A) ?_
        refine r_aload_0 rfl ?_
        refine r_iload_1 rfl ?_
        refine r_push rfl ?_
        refine r_invvP_2 rfl (o) rfl rfl (by decide) (c_os2 q (by omega)) ?_
        refine r_push rfl ?_
        refine r_iceqT rfl (B) ?_
        refine r_push rfl ?_
        refine r_goto rfl ?_
        refine r_puti rfl (o) rfl ?_
        rw [mo_0]
        refine r_aload_0 rfl ?_
        refine r_getf rfl (o2) (by rfl) ?_
        refine r_ifleF rfl (by rw [upd_eq]; decide) ?_
        refine r_push rfl ?_
        refine r_iret rfl ?_
        rfl
      · by_cases C : m 4 = 10
        · rw [if_pos (Or.inr (Or.inr C))]
          refine r_aload_0 rfl ?_
          refine r_aload_0 rfl ?_
          refine r_iload_1 rfl ?_
          refine r_invvP_1 rfl (o) rfl rfl (by decide) (c_mIsStone q _) ?_
          refine r_ifneT rfl (by rw [e1]; decide) ?_
          refine r_aload_0 rfl ?_
          refine r_iload_1 rfl ?_
          refine r_push rfl ?_
          refine r_invvP_2 rfl (o) rfl rfl (by decide) (c_os3 q (by omega)) ?_
          refine r_push rfl ?_
          refine r_iceqF rfl (A) ?_
          refine r_aload_0 rfl ?_
          refine r_iload_1 rfl ?_
          refine r_push rfl ?_
          refine r_invvP_2 rfl (o) rfl rfl (by decide) (c_os2 q (by omega)) ?_
          refine r_push rfl ?_
          refine r_iceqF rfl (B) ?_
          refine r_aload_0 rfl ?_
          refine r_getf rfl (o) (by rfl) ?_
          refine r_push rfl ?_
          refine r_iald rfl (oo) (show (4 : Int32) = nI 4 from rfl) (by first | assumption | omega) (by first | decide | omega) ?_
          refine r_push rfl ?_
          refine r_icneF rfl (C) ?_
          refine r_push rfl ?_
          refine r_goto rfl ?_
          refine r_puti rfl (o) rfl ?_
          rw [mo_0]
          refine r_aload_0 rfl ?_
          refine r_getf rfl (o2) (by rfl) ?_
          refine r_ifleF rfl (by rw [upd_eq]; decide) ?_
          refine r_push rfl ?_
          refine r_iret rfl ?_
          rfl
        · rw [if_neg (fun z => z.elim A (fun z => z.elim B C))]
          have e4 := v.ss.1
          have hs10 : nS m < 10 := by
            rcases Nat.lt_or_eq_of_le hS with z | z
            · exact z
            · rw [z] at e4; exact absurd e4 C
          generalize hs : nS m = s at *
          generalize hw : m (71 + 6 * i) = w at *
          have a0 := actM (ac := ac) (k := k) q (m' := m)
          generalize ht : tlF m (nI i) 2 w = t at *
          have a1 := actM (ac := ac) (k := k) q (m' := t)
          have cS : cpS m i w = cpN t t (69 + 6 * i) (69 + 6 * s) 6 := by unfold cpS; rw [hs, ht]
          have c4 : cpN t t (69 + 6 * i) (69 + 6 * s) 6 4 = m 4 := by rw [cpN_at, if_neg (by omega), ← ht, tl_lo (by decide) (by decide)]
          generalize hc : cpN t t (69 + 6 * i) (69 + 6 * s) 6 = c6 at *
          have b1 := actM (ac := ac) (k := k) q (m' := c6)
          have b2 := actM (ac := ac) (k := k) q (m' := upd c6 (71 + 6 * s) (w / 2))
          have b3 := actM (ac := ac) (k := k) q (m' := upd (upd c6 (71 + 6 * s) (w / 2)) (71 + 6 * i) (w - w / 2))
          have er : splR m i = upd (upd (upd c6 (71 + 6 * s) (w / 2)) (71 + 6 * i) (w - w / 2)) 4 (m 4 + 1) := by unfold splR; rw [hw, hs, cS]
          have z4 : upd (upd c6 (71 + 6 * s) (w / 2)) (71 + 6 * i) (w - w / 2) 4 = m 4 := by rw [upd_ne (by omega), upd_ne (by omega), c4]
          refine r_aload_0 rfl ?_
          refine r_aload_0 rfl ?_
          refine r_iload_1 rfl ?_
          refine r_invvP_1 rfl (o) rfl rfl (by decide) (c_mIsStone q _) ?_
          refine r_ifneT rfl (by rw [e1]; decide) ?_
          refine r_aload_0 rfl ?_
          refine r_iload_1 rfl ?_
          refine r_push rfl ?_
          refine r_invvP_2 rfl (o) rfl rfl (by decide) (c_os3 q (by omega)) ?_
          refine r_push rfl ?_
          refine r_iceqF rfl (A) ?_
          refine r_aload_0 rfl ?_
          refine r_iload_1 rfl ?_
          refine r_push rfl ?_
          refine r_invvP_2 rfl (o) rfl rfl (by decide) (c_os2 q (by omega)) ?_
          refine r_push rfl ?_
          refine r_iceqF rfl (by rw [hw]; exact B) ?_
          refine r_aload_0 rfl ?_
          refine r_getf rfl (o) (by rfl) ?_
          refine r_push rfl ?_
          refine r_iald rfl (oo) (show (4 : Int32) = nI 4 from rfl) (by first | assumption | omega) (by first | decide | omega) ?_
          refine r_push rfl ?_
          refine r_icneT rfl (C) ?_
          refine r_push rfl ?_
          refine r_puti rfl (o) rfl ?_
          rw [mo_0]
          refine r_aload_0 rfl ?_
          refine r_getf rfl (o3) (by rfl) ?_
          refine r_ifleT rfl (by rw [upd_eq]; decide) ?_
          refine r_aload_0 rfl ?_
          refine r_invvV rfl rfl (o3) rfl rfl (by decide) (c_rem q qa e6 hk) ?_
          refine r_aload_0 rfl ?_
          refine r_iload_1 rfl ?_
          refine r_push rfl ?_
          refine r_invvP_2 rfl (a0.1) rfl rfl (by decide) (c_os2 a0 (by omega)) ?_
          rw [hw]
          refine r_istore_2 rfl ?_
          refine r_aload_0 rfl ?_
          refine r_getf rfl (a0.1) (by rfl) ?_
          refine r_push rfl ?_
          refine r_iald rfl (a0.2) (show (4 : Int32) = nI 4 from rfl) (by first | assumption | omega) (by first | decide | omega) ?_
          rw [e4]
          refine r_istore_3 rfl ?_
          refine r_aload_0 rfl ?_
          refine r_iload_1 rfl ?_
          refine r_push rfl ?_
          refine r_iload_2 rfl ?_
          refine r_invvV rfl rfl (a0.1) rfl rfl (by decide) (c_mlogs a0 _ _ _) ?_
          rw [act1, ht]
          refine r_push rfl ?_
          refine r_istore_4 rfl ?_
          refine wp_forHK 6 (fun j => [.ref y, .int (nI i), .int w, .int (nI s), .int (nI j)]) (fun j h' => h' = actH h y g ac m (cpN t t (69 + 6 * i) (69 + 6 * s) j) k) (fun j h' hj hK kont => ?_) (fun h' hK => ?_) rfl
          · subst hK
            have aj := actM (ac := ac) (k := k) q (m' := cpN t t (69 + 6 * i) (69 + 6 * s) j)
            have ej : cpN t t (69 + 6 * i) (69 + 6 * s) j (69 + 6 * i + j) = t (69 + 6 * i + j) := by rw [cpN_at, if_neg (by omega)]
            refine r_iload_4 rfl ?_
            refine r_push rfl ?_
            refine r_icgeF rfl (by rw [show (6 : Int32) = nI 6 from rfl]; exact nI_lt hj (by decide)) ?_
            refine r_aload_0 rfl ?_
            refine r_iload_3 rfl ?_
            refine r_iload_4 rfl ?_
            refine r_aload_0 rfl ?_
            refine r_iload_1 rfl ?_
            refine r_iload_4 rfl ?_
            refine r_invvP_2 rfl (aj.1) rfl rfl (by decide) (c_mOfS aj rfl (by omega)) ?_
            rw [ej]
            refine r_invvV rfl rfl (aj.1) rfl rfl (by decide) (c_mPutS aj rfl (by omega)) ?_
            rw [act1]
            refine r_iinc_4 rfl ?_
            refine r_goto rfl ?_
            rw [nI_1]
            exact kont _ rfl
          · subst hK
            rw [hc]
            refine r_iload_4 rfl ?_
            refine r_push rfl ?_
            refine r_icgeT rfl (by decide) ?_
            refine r_aload_0 rfl ?_
            refine r_iload_3 rfl ?_
            refine r_push rfl ?_
            refine r_iload_2 rfl ?_
            refine r_push rfl ?_
            refine r_idiv rfl (by decide) ?_
            refine r_invvV rfl rfl (b1.1) rfl rfl (by decide) (c_ps2 b1 (by omega)) ?_
            rw [act1]
            refine r_aload_0 rfl ?_
            refine r_iload_1 rfl ?_
            refine r_push rfl ?_
            refine r_iload_2 rfl ?_
            refine r_iload_2 rfl ?_
            refine r_push rfl ?_
            refine r_idiv rfl (by decide) ?_
            refine r_isub rfl ?_
            refine r_invvV rfl rfl (b2.1) rfl rfl (by decide) (c_ps2 b2 (by omega)) ?_
            rw [act1]
            refine r_aload_0 rfl ?_
            refine r_getf rfl (b3.1) (by rfl) ?_
            refine r_push rfl ?_
            refine r_dup2 rfl ?_
            refine r_iald rfl (b3.2) (show (4 : Int32) = nI 4 from rfl) (by first | assumption | omega) (by first | decide | omega) ?_
            rw [z4]
            refine r_push rfl ?_
            refine r_iadd rfl ?_
            refine r_iast rfl (b3.2) (show (4 : Int32) = nI 4 from rfl) (by first | assumption | omega) (by first | decide | omega) ?_
            refine r_iload_3 rfl ?_
            refine r_iret rfl ?_
            rw [act1, er, e4]
            rfl
def qHours (m : Nat → Int32) (n : Int32) : Nat × Int32 := if inF n 1 100 = false then (1, 0) else (0, (hourN true m n.toNatClampNeg).1)
theorem isN {w : Int32} (h : inF w 1 100 = true) : ∃ k, k ≤ 100 ∧ w = nI k := by
  have hh : 1 ≤ w ∧ w ≤ 100 := by simpa [inF] using h
  have h0 : inF w 0 (nI 101 - 1) = true := inF_t (by
    have := Int32.le_iff_toInt_le.mp hh.1
    exact Int32.le_iff_toInt_le.mpr (Int.le_trans (by decide) this)) hh.2
  obtain ⟨i, hi, rfl⟩ := inF_nI (by decide) h0
  exact ⟨i, by omega, rfl⟩
theorem c_yHours {bs : Nat} {b : Nat → Int32} (q : MZ G bs h y g m) (v : VR m) (yb : BY b m) (lv : LV m) (qa : h.1 (y + 4) = some (.inl (0, 4428, .inl ac))) (e6 : g 6 = nI k) (hk : k ≤ 12) (n : Int32) : Ev G 40 m_X6_hours [.ref y, .int n] h (fun v h' => v = .int (qHours m n).2 ∧ (if (qHours m n).1 = 0 then ML G bs y (actH h y g ac m m k) (actG g k) b (hourN true m n.toNatClampNeg).2 h' else h' = mh h y (upd g 0 (nI (qHours m n).1)))) := by
  have q0 := q
  obtain ⟨q, hw, og, hb, ⟨tp, q5⟩, ⟨fa, q6⟩⟩ := q
  have o := q.1; have oo := q.2
  have o1 := (q.thr (nI 1)).1; have o3 := (q.thr (nI 0)).1
  refine wc_in mt_X6_hours rfl (L := [.ref y, .int n]) rfl ?_
  unfold qHours
  cases e1 : inF n 1 100 with
  | false =>
    rw [if_pos rfl]
    refine r_aload_0 rfl ?_
    refine r_iload_1 rfl ?_
    refine r_push rfl ?_
    refine r_push rfl ?_
    refine r_invP_3 rfl rfl (by decide) (c_isIn _ _ _) ?_
    refine r_ifneF rfl (by rw [e1]; rfl) ?_
    refine r_push rfl ?_
    refine r_goto rfl ?_
    refine r_puti rfl (o) rfl ?_
    rw [mo_0]
    refine r_aload_0 rfl ?_
    refine r_getf rfl (o1) (by rfl) ?_
    refine r_ifleF rfl (by rw [upd_eq]; decide) ?_
    refine r_push rfl ?_
    refine r_iret rfl ?_
    exact ⟨_, _, rfl, rfl, rfl⟩
  | true =>
    rw [if_neg (by decide)]
    obtain ⟨j, hj, rfl⟩ := isN e1
    rw [nI_clamp (show j < 2 ^ 31 by omega)]
    have a0 := actM (ac := ac) (k := k) q (m' := m)
    have f1 : HF (fun a => a = y) 0 0 h (mh h y (upd g 0 (nI 0))) := HF.set hw o
    have f2 : HF (fun a => a = y ∨ a = y + 4) 0 0 h (am_set (mh h y (upd g 0 (nI 0))) (y + 4) (.inl (0, 4428, .inl (remA m ac k)))) := HF.setP (f1.mono (fun a z => Or.inl z) (Nat.le_refl _) (Nat.le_refl _)) (am_set_k qa (by omega)) (Or.inr rfl)
    have f3 : HF (fun a => a = y ∨ a = y + 4) 0 0 h (actH h y g ac m m k) := by
      rw [← act0 q]
      exact HF.setP f2 (am_set_k am_set_at (by omega)) (Or.inl rfl)
    have mz : MZ G bs (actH h y g ac m m k) y (actG g k) m := ⟨a0, f3.w, og.keep f3 (fun a z => by omega), hb, ⟨tp, f3.k q5 (by omega)⟩, ⟨fa, f3.k q6 (by omega)⟩⟩
    have ml : ML G bs y (actH h y g ac m m k) (actG g k) b m (actH h y g ac m m k) := ⟨_, mz, v, yb, lv, gK.refl, (HF.refl f3.w).mono (fun _ z => z) (Nat.le_refl _) (Nat.le_refl _)⟩
    refine r_aload_0 rfl ?_
    refine r_iload_1 rfl ?_
    refine r_push rfl ?_
    refine r_push rfl ?_
    refine r_invP_3 rfl rfl (by decide) (c_isIn _ _ _) ?_
    refine r_ifneT rfl (by rw [e1]; decide) ?_
    refine r_push rfl ?_
    refine r_puti rfl (o) rfl ?_
    rw [mo_0]
    refine r_aload_0 rfl ?_
    refine r_getf rfl (o3) (by rfl) ?_
    refine r_ifleT rfl (by rw [upd_eq]; decide) ?_
    refine r_aload_0 rfl ?_
    refine r_invvV rfl rfl (o3) rfl rfl (by decide) (c_rem q qa e6 hk) ?_
    refine r_aload_0 rfl ?_
    refine r_iload_1 rfl ?_
    refine r_push rfl ?_
    refine r_invvE rfl rfl (a0.1) rfl rfl (by decide) (c_mpasses ml (by omega) true) ?_
    rintro v2 h2 ⟨rfl, w2⟩
    refine r_iret rfl ?_
    exact ⟨_, _, rfl, rfl, w2⟩
end
