/-! WHAT IS ASKED: count on both sides -/
set_option maxRecDepth 100000
theorem out13 {w : Int32} (e : inF w 0 13 = false) : ∀ k, k < 14 → ¬ w = nI k := by
  intro k hk z
  subst z
  rcases (show k = 0 ∨ k = 1 ∨ k = 2 ∨ k = 3 ∨ k = 4 ∨ k = 5 ∨ k = 6 ∨ k = 7 ∨ k = 8 ∨ k = 9 ∨ k = 10 ∨ k = 11 ∨ k = 12 ∨ k = 13 by omega) with rfl | rfl | rfl | rfl | rfl | rfl | rfl | rfl | rfl | rfl | rfl | rfl | rfl | rfl <;> exact absurd e (by decide)
section
variable {G : am_G} {bs arr : Nat} {S : Nat → Prop} {h : am_H} {x y : Nat} {hi : Bool} {m b g : Nat → Int32} {l : Value} {xs : List Nat}
theorem c_xCount (o : h.1 x = some (.inr (0, xobj x hi))) (q : WA h (x + 1) m b l) (v : VR m) (yb : BY b m) (lo : LO G bs h S m l) (lc : LC m) (al : AL G bs h (x + 64) arr xs) (w : Int32) : Vc G 5 m_X1_count [.ref x, .int w] h (.int (cntF m xs.length w)) := by
  have o1 := wa_o q
  refine wc_in mt_X1_count rfl (L := [.ref x, .int w, am_un]) rfl ?_
  unfold cntF
  refine r_aload_0 rfl ?_
  refine r_getf rfl o rfl ?_
  refine r_astore_2 rfl ?_
  refine r_iload_1 rfl ?_
  cases e : inF w 0 13 with
  | false =>
    have n := out13 e
    refine r_sw (nx := 173) rfl ?_ ?_
    · simp only [am_sw]
      rw [if_neg (show ¬ w = 0 from n 0 (by decide)), if_neg (show ¬ w = 1 from n 1 (by decide)), if_neg (show ¬ w = 2 from n 2 (by decide)), if_neg (show ¬ w = 3 from n 3 (by decide)), if_neg (show ¬ w = 4 from n 4 (by decide)), if_neg (show ¬ w = 5 from n 5 (by decide)), if_neg (show ¬ w = 6 from n 6 (by decide)), if_neg (show ¬ w = 7 from n 7 (by decide)), if_neg (show ¬ w = 8 from n 8 (by decide)), if_neg (show ¬ w = 9 from n 9 (by decide)), if_neg (show ¬ w = 10 from n 10 (by decide)), if_neg (show ¬ w = 11 from n 11 (by decide)), if_neg (show ¬ w = 12 from n 12 (by decide)), if_neg (show ¬ w = 13 from n 13 (by decide))]
    refine r_push rfl ?_
    refine r_iret rfl ?_
    rfl
  | true =>
    obtain ⟨j, hj, rfl⟩ := inF_nI (n := 14) (by decide) e
    rw [if_neg (by decide), nI_clamp (show j < 2 ^ 31 by omega)]
    rcases (show j = 0 ∨ j = 1 ∨ j = 2 ∨ j = 3 ∨ j = 4 ∨ j = 5 ∨ j = 6 ∨ j = 7 ∨ j = 8 ∨ j = 9 ∨ j = 10 ∨ j = 11 ∨ j = 12 ∨ j = 13 by omega) with rfl | rfl | rfl | rfl | rfl | rfl | rfl | rfl | rfl | rfl | rfl | rfl | rfl | rfl
    · refine r_sw (nx := 76) rfl rfl ?_
      refine r_aload_2 rfl ?_
      refine r_getf rfl (by assumption) (by rfl) ?_
      refine r_iret rfl ?_
      rfl
    · refine r_sw (nx := 81) rfl rfl ?_
      refine r_aload_2 rfl ?_
      refine r_getf rfl (by assumption) (by rfl) ?_
      refine r_iret rfl ?_
      rfl
    · refine r_sw (nx := 86) rfl rfl ?_
      refine r_aload_2 rfl ?_
      refine r_getf rfl (by assumption) (by rfl) ?_
      refine r_iret rfl ?_
      rfl
    · refine r_sw (nx := 91) rfl rfl ?_
      have key : ∀ lv, lv = l → Wp G 5 mt_X1_count 95 [.ref x, .int (nI 3), .ref (x + 1)] [lv] h (fun R => R = .inl (some (.int (cntV m xs.length 3)), h)) := by
        rintro lv rfl
        rcases lo with ⟨e1, rfl⟩ | ⟨e1, a, rfl, hs, la, ys, z1, ⟨-, ar, -, z2⟩, z3, -⟩
        · refine r_ifnonnullF rfl ?_
          refine r_push rfl ?_
          refine r_goto rfl ?_
          refine r_iret rfl ?_
          show _ = Sum.inl (some (Value.int (m 1)), h)
          rw [e1]
        · refine r_ifnonnullT rfl ?_
          refine r_aload_2 rfl ?_
          refine r_getf rfl o1 rfl ?_
          refine r_getf rfl z1 rfl ?_
          have z4 := z2
          obtain ⟨mc, t, cap, f, z5, -⟩ := z4
          refine r_invvP_0 rfl z5 rfl rfl (by decide) (c_alSize z2) ?_
          refine r_iret rfl ?_
          show _ = Sum.inl (some (Value.int (m 1)), h)
          rw [lc e1, z3]
      refine r_aload_2 rfl ?_
      refine r_getf rfl o1 rfl ?_
      exact key _ rfl
    · refine r_sw (nx := 113) rfl rfl ?_
      refine r_aload_2 rfl ?_
      refine r_getf rfl (by assumption) (by rfl) ?_
      refine r_iret rfl ?_
      rfl
    · refine r_sw (nx := 118) rfl rfl ?_
      refine r_aload_2 rfl ?_
      refine r_getf rfl (by assumption) (by rfl) ?_
      refine r_iret rfl ?_
      rfl
    · refine r_sw (nx := 123) rfl rfl ?_
      refine r_aload_2 rfl ?_
      refine r_invvP_0 rfl (by assumption) rfl rfl (by decide) (c_purses q v) ?_
      refine r_iret rfl ?_
      rfl
    · refine r_sw (nx := 128) rfl rfl ?_
      refine r_aload_2 rfl ?_
      refine r_push rfl ?_
      refine r_invvP_1 rfl (by assumption) rfl rfl (by decide) (c_ofState q v _) ?_
      refine r_iret rfl ?_
      rfl
    · refine r_sw (nx := 134) rfl rfl ?_
      refine r_aload_2 rfl ?_
      refine r_push rfl ?_
      refine r_invvP_1 rfl (by assumption) rfl rfl (by decide) (c_ofState q v _) ?_
      refine r_iret rfl ?_
      rfl
    · refine r_sw (nx := 140) rfl rfl ?_
      refine r_aload_2 rfl ?_
      refine r_push rfl ?_
      refine r_invvP_1 rfl (by assumption) rfl rfl (by decide) (c_ofState q v _) ?_
      refine r_iret rfl ?_
      rfl
    · refine r_sw (nx := 146) rfl rfl ?_
      refine r_aload_2 rfl ?_
      refine r_aload_2 rfl ?_
      refine r_invvP_0 rfl (by assumption) rfl rfl (by decide) (c_unpaid q v) ?_
      refine r_invvP_1 rfl (by assumption) rfl rfl (by decide) (c_weightOf q v _) ?_
      refine r_iret rfl ?_
      show _ = Sum.inl (some (Value.int (upwF m)), h)
      rw [upw_eq v]
    · refine r_sw (nx := 155) rfl rfl ?_
      refine r_aload_2 rfl ?_
      refine r_invvP_0 rfl (by assumption) rfl rfl (by decide) (c_hurtOnes q v) ?_
      refine r_iret rfl ?_
      rfl
    · refine r_sw (nx := 160) rfl rfl ?_
      refine r_aload_2 rfl ?_
      refine r_getf rfl (by assumption) (by rfl) ?_
      refine r_iret rfl ?_
      rfl
    · refine r_sw (nx := 165) rfl rfl ?_
      have oa : ∃ fs, h.1 (x + 64) = some (.inr (4, fs)) := by obtain ⟨mc, t, cap, f, z5, -⟩ := al; exact ⟨_, z5⟩
      obtain ⟨fs, oa⟩ := oa
      refine r_aload_0 rfl ?_
      refine r_getf rfl (by assumption) (by rfl) ?_
      refine r_invvP_0 rfl (oa) rfl rfl (by decide) (c_alSize al) ?_
      refine r_iret rfl ?_
      rfl
theorem c_yCount (q : MM h y g m) (v : VR m) {n : Nat} (e6 : g 6 = nI n) (w : Int32) : Yc G 4 m_X6_count [.ref y, .int w] h y g (0, cntF m n w) := by
  have m3 := q.thr (nI 0)
  have o := q.1; have o3 := m3.1; have r3 := m3.2
  refine wc_in mt_X6_count rfl (L := [.ref y, .int w]) rfl ?_
  refine r_aload_0 rfl ?_
  refine r_push rfl ?_
  refine r_puti rfl o rfl ?_
  rw [mo_0]
  show Wp _ _ _ _ _ _ _ (fun R => R = .inl (some (.int (cntF m n w)), _))
  unfold cntF
  cases e : inF w 0 13 with
  | false =>
    have z := out13 e
    have e79 : inF w 7 9 = false := by
      cases e2 : inF w 7 9 with
      | false => rfl
      | true =>
        exfalso
        unfold inF at e e2
        rw [Bool.and_eq_true, decide_eq_true_iff, decide_eq_true_iff] at e2
        rw [decide_eq_true (Int32.le_trans (show (0 : Int32) ≤ 7 by decide) e2.1), decide_eq_true (Int32.le_trans e2.2 (show (9 : Int32) ≤ 13 by decide))] at e
        cases e
    refine r_iload_1 rfl ?_
    refine r_ifneT rfl (z 0 (by decide)) ?_
    refine r_iload_1 rfl ?_
    refine r_push rfl ?_
    refine r_icneT rfl (z 1 (by decide)) ?_
    refine r_iload_1 rfl ?_
    refine r_push rfl ?_
    refine r_icneT rfl (z 2 (by decide)) ?_
    refine r_iload_1 rfl ?_
    refine r_push rfl ?_
    refine r_icneT rfl (z 3 (by decide)) ?_
    refine r_iload_1 rfl ?_
    refine r_push rfl ?_
    refine r_icneT rfl (z 4 (by decide)) ?_
    refine r_iload_1 rfl ?_
    refine r_push rfl ?_
    refine r_icneT rfl (z 5 (by decide)) ?_
    refine r_iload_1 rfl ?_
    refine r_push rfl ?_
    refine r_icneT rfl (z 6 (by decide)) ?_
    refine r_iload_1 rfl ?_
    refine r_push rfl ?_
    refine r_push rfl ?_
    refine r_invP_3 rfl rfl (by decide) (c_isIn _ _ _) ?_
    refine r_ifeqT rfl (by rw [e79]; rfl) ?_
    refine r_iload_1 rfl ?_
    refine r_push rfl ?_
    refine r_icneT rfl (z 10 (by decide)) ?_
    refine r_iload_1 rfl ?_
    refine r_push rfl ?_
    refine r_icneT rfl (z 11 (by decide)) ?_
    refine r_iload_1 rfl ?_
    refine r_push rfl ?_
    refine r_icneT rfl (z 12 (by decide)) ?_
    refine r_iload_1 rfl ?_
    refine r_push rfl ?_
    refine r_icneT rfl (z 13 (by decide)) ?_
    refine r_push rfl ?_
    refine r_iret rfl ?_
    rfl
  | true =>
    obtain ⟨j, hj, rfl⟩ := inF_nI (n := 14) (by decide) e
    rw [if_neg (by decide), nI_clamp (show j < 2 ^ 31 by omega)]
    rcases (show j = 0 ∨ j = 1 ∨ j = 2 ∨ j = 3 ∨ j = 4 ∨ j = 5 ∨ j = 6 ∨ j = 7 ∨ j = 8 ∨ j = 9 ∨ j = 10 ∨ j = 11 ∨ j = 12 ∨ j = 13 by omega) with rfl | rfl | rfl | rfl | rfl | rfl | rfl | rfl | rfl | rfl | rfl | rfl | rfl | rfl
    · refine r_iload_1 rfl ?_
      refine r_ifneF rfl (rfl) ?_
      refine r_aload_0 rfl ?_
      refine r_getf rfl (o3) (by rfl) ?_
      refine r_push rfl ?_
      refine r_iald rfl (r3) (show (3 : Int32) = nI 3 from rfl) (by first | assumption | omega) (by first | decide | omega) ?_
      refine r_iret rfl ?_
      rfl
    · refine r_iload_1 rfl ?_
      refine r_ifneT rfl (by decide) ?_
      refine r_iload_1 rfl ?_
      refine r_push rfl ?_
      refine r_icneF rfl (rfl) ?_
      refine r_aload_0 rfl ?_
      refine r_getf rfl (o3) (by rfl) ?_
      refine r_push rfl ?_
      refine r_iald rfl (r3) (show (4 : Int32) = nI 4 from rfl) (by first | assumption | omega) (by first | decide | omega) ?_
      refine r_iret rfl ?_
      rfl
    · refine r_iload_1 rfl ?_
      refine r_ifneT rfl (by decide) ?_
      refine r_iload_1 rfl ?_
      refine r_push rfl ?_
      refine r_icneT rfl (by decide) ?_
      refine r_iload_1 rfl ?_
      refine r_push rfl ?_
      refine r_icneF rfl (rfl) ?_
      refine r_aload_0 rfl ?_
      refine r_getf rfl (o3) (by rfl) ?_
      refine r_push rfl ?_
      refine r_iald rfl (r3) (show (0 : Int32) = nI 0 from rfl) (by first | assumption | omega) (by first | decide | omega) ?_
      refine r_iret rfl ?_
      rfl
    · refine r_iload_1 rfl ?_
      refine r_ifneT rfl (by decide) ?_
      refine r_iload_1 rfl ?_
      refine r_push rfl ?_
      refine r_icneT rfl (by decide) ?_
      refine r_iload_1 rfl ?_
      refine r_push rfl ?_
      refine r_icneT rfl (by decide) ?_
      refine r_iload_1 rfl ?_
      refine r_push rfl ?_
      refine r_icneF rfl (rfl) ?_
      refine r_aload_0 rfl ?_
      refine r_getf rfl (o3) (by rfl) ?_
      refine r_push rfl ?_
      refine r_iald rfl (r3) (show (1 : Int32) = nI 1 from rfl) (by first | assumption | omega) (by first | decide | omega) ?_
      refine r_iret rfl ?_
      rfl
    · refine r_iload_1 rfl ?_
      refine r_ifneT rfl (by decide) ?_
      refine r_iload_1 rfl ?_
      refine r_push rfl ?_
      refine r_icneT rfl (by decide) ?_
      refine r_iload_1 rfl ?_
      refine r_push rfl ?_
      refine r_icneT rfl (by decide) ?_
      refine r_iload_1 rfl ?_
      refine r_push rfl ?_
      refine r_icneT rfl (by decide) ?_
      refine r_iload_1 rfl ?_
      refine r_push rfl ?_
      refine r_icneF rfl (rfl) ?_
      refine r_aload_0 rfl ?_
      refine r_getf rfl (o3) (by rfl) ?_
      refine r_push rfl ?_
      refine r_iald rfl (r3) (show (5 : Int32) = nI 5 from rfl) (by first | assumption | omega) (by first | decide | omega) ?_
      refine r_iret rfl ?_
      rfl
    · refine r_iload_1 rfl ?_
      refine r_ifneT rfl (by decide) ?_
      refine r_iload_1 rfl ?_
      refine r_push rfl ?_
      refine r_icneT rfl (by decide) ?_
      refine r_iload_1 rfl ?_
      refine r_push rfl ?_
      refine r_icneT rfl (by decide) ?_
      refine r_iload_1 rfl ?_
      refine r_push rfl ?_
      refine r_icneT rfl (by decide) ?_
      refine r_iload_1 rfl ?_
      refine r_push rfl ?_
      refine r_icneT rfl (by decide) ?_
      refine r_iload_1 rfl ?_
      refine r_push rfl ?_
      refine r_icneF rfl (rfl) ?_
      refine r_aload_0 rfl ?_
      refine r_getf rfl (o3) (by rfl) ?_
      refine r_push rfl ?_
      refine r_iald rfl (r3) (show (6 : Int32) = nI 6 from rfl) (by first | assumption | omega) (by first | decide | omega) ?_
      refine r_iret rfl ?_
      rfl
    · refine r_iload_1 rfl ?_
      refine r_ifneT rfl (by decide) ?_
      refine r_iload_1 rfl ?_
      refine r_push rfl ?_
      refine r_icneT rfl (by decide) ?_
      refine r_iload_1 rfl ?_
      refine r_push rfl ?_
      refine r_icneT rfl (by decide) ?_
      refine r_iload_1 rfl ?_
      refine r_push rfl ?_
      refine r_icneT rfl (by decide) ?_
      refine r_iload_1 rfl ?_
      refine r_push rfl ?_
      refine r_icneT rfl (by decide) ?_
      refine r_iload_1 rfl ?_
      refine r_push rfl ?_
      refine r_icneT rfl (by decide) ?_
      refine r_iload_1 rfl ?_
      refine r_push rfl ?_
      refine r_icneF rfl (rfl) ?_
      refine r_aload_0 rfl ?_
      refine r_invvP_0 rfl (o3) rfl rfl (by decide) (c_mpurses m3 v) ?_
      refine r_iret rfl ?_
      rfl
    · refine r_iload_1 rfl ?_
      refine r_ifneT rfl (by decide) ?_
      refine r_iload_1 rfl ?_
      refine r_push rfl ?_
      refine r_icneT rfl (by decide) ?_
      refine r_iload_1 rfl ?_
      refine r_push rfl ?_
      refine r_icneT rfl (by decide) ?_
      refine r_iload_1 rfl ?_
      refine r_push rfl ?_
      refine r_icneT rfl (by decide) ?_
      refine r_iload_1 rfl ?_
      refine r_push rfl ?_
      refine r_icneT rfl (by decide) ?_
      refine r_iload_1 rfl ?_
      refine r_push rfl ?_
      refine r_icneT rfl (by decide) ?_
      refine r_iload_1 rfl ?_
      refine r_push rfl ?_
      refine r_icneT rfl (by decide) ?_
      refine r_iload_1 rfl ?_
      refine r_push rfl ?_
      refine r_push rfl ?_
      refine r_invP_3 rfl rfl (by decide) (c_isIn _ _ _) ?_
      refine r_ifeqF rfl (by decide) ?_
      refine r_aload_0 rfl ?_
      refine r_iload_1 rfl ?_
      refine r_push rfl ?_
      refine r_isub rfl ?_
      refine r_invvP_1 rfl (o3) rfl rfl (by decide) (c_mstonesOf m3 v _) ?_
      refine r_iret rfl ?_
      rfl
    · refine r_iload_1 rfl ?_
      refine r_ifneT rfl (by decide) ?_
      refine r_iload_1 rfl ?_
      refine r_push rfl ?_
      refine r_icneT rfl (by decide) ?_
      refine r_iload_1 rfl ?_
      refine r_push rfl ?_
      refine r_icneT rfl (by decide) ?_
      refine r_iload_1 rfl ?_
      refine r_push rfl ?_
      refine r_icneT rfl (by decide) ?_
      refine r_iload_1 rfl ?_
      refine r_push rfl ?_
      refine r_icneT rfl (by decide) ?_
      refine r_iload_1 rfl ?_
      refine r_push rfl ?_
      refine r_icneT rfl (by decide) ?_
      refine r_iload_1 rfl ?_
      refine r_push rfl ?_
      refine r_icneT rfl (by decide) ?_
      refine r_iload_1 rfl ?_
      refine r_push rfl ?_
      refine r_push rfl ?_
      refine r_invP_3 rfl rfl (by decide) (c_isIn _ _ _) ?_
      refine r_ifeqF rfl (by decide) ?_
      refine r_aload_0 rfl ?_
      refine r_iload_1 rfl ?_
      refine r_push rfl ?_
      refine r_isub rfl ?_
      refine r_invvP_1 rfl (o3) rfl rfl (by decide) (c_mstonesOf m3 v _) ?_
      refine r_iret rfl ?_
      rfl
    · refine r_iload_1 rfl ?_
      refine r_ifneT rfl (by decide) ?_
      refine r_iload_1 rfl ?_
      refine r_push rfl ?_
      refine r_icneT rfl (by decide) ?_
      refine r_iload_1 rfl ?_
      refine r_push rfl ?_
      refine r_icneT rfl (by decide) ?_
      refine r_iload_1 rfl ?_
      refine r_push rfl ?_
      refine r_icneT rfl (by decide) ?_
      refine r_iload_1 rfl ?_
      refine r_push rfl ?_
      refine r_icneT rfl (by decide) ?_
      refine r_iload_1 rfl ?_
      refine r_push rfl ?_
      refine r_icneT rfl (by decide) ?_
      refine r_iload_1 rfl ?_
      refine r_push rfl ?_
      refine r_icneT rfl (by decide) ?_
      refine r_iload_1 rfl ?_
      refine r_push rfl ?_
      refine r_push rfl ?_
      refine r_invP_3 rfl rfl (by decide) (c_isIn _ _ _) ?_
      refine r_ifeqF rfl (by decide) ?_
      refine r_aload_0 rfl ?_
      refine r_iload_1 rfl ?_
      refine r_push rfl ?_
      refine r_isub rfl ?_
      refine r_invvP_1 rfl (o3) rfl rfl (by decide) (c_mstonesOf m3 v _) ?_
      refine r_iret rfl ?_
      rfl
    · refine r_iload_1 rfl ?_
      refine r_ifneT rfl (by decide) ?_
      refine r_iload_1 rfl ?_
      refine r_push rfl ?_
      refine r_icneT rfl (by decide) ?_
      refine r_iload_1 rfl ?_
      refine r_push rfl ?_
      refine r_icneT rfl (by decide) ?_
      refine r_iload_1 rfl ?_
      refine r_push rfl ?_
      refine r_icneT rfl (by decide) ?_
      refine r_iload_1 rfl ?_
      refine r_push rfl ?_
      refine r_icneT rfl (by decide) ?_
      refine r_iload_1 rfl ?_
      refine r_push rfl ?_
      refine r_icneT rfl (by decide) ?_
      refine r_iload_1 rfl ?_
      refine r_push rfl ?_
      refine r_icneT rfl (by decide) ?_
      refine r_iload_1 rfl ?_
      refine r_push rfl ?_
      refine r_push rfl ?_
      refine r_invP_3 rfl rfl (by decide) (c_isIn _ _ _) ?_
      refine r_ifeqT rfl (by rfl) ?_
      refine r_iload_1 rfl ?_
      refine r_push rfl ?_
      refine r_icneF rfl (rfl) ?_
      refine r_aload_0 rfl ?_
      refine r_invvP_0 rfl (o3) rfl rfl (by decide) (c_munpaid m3 v) ?_
      refine r_iret rfl ?_
      rfl
    · refine r_iload_1 rfl ?_
      refine r_ifneT rfl (by decide) ?_
      refine r_iload_1 rfl ?_
      refine r_push rfl ?_
      refine r_icneT rfl (by decide) ?_
      refine r_iload_1 rfl ?_
      refine r_push rfl ?_
      refine r_icneT rfl (by decide) ?_
      refine r_iload_1 rfl ?_
      refine r_push rfl ?_
      refine r_icneT rfl (by decide) ?_
      refine r_iload_1 rfl ?_
      refine r_push rfl ?_
      refine r_icneT rfl (by decide) ?_
      refine r_iload_1 rfl ?_
      refine r_push rfl ?_
      refine r_icneT rfl (by decide) ?_
      refine r_iload_1 rfl ?_
      refine r_push rfl ?_
      refine r_icneT rfl (by decide) ?_
      refine r_iload_1 rfl ?_
      refine r_push rfl ?_
      refine r_push rfl ?_
      refine r_invP_3 rfl rfl (by decide) (c_isIn _ _ _) ?_
      refine r_ifeqT rfl (by rfl) ?_
      refine r_iload_1 rfl ?_
      refine r_push rfl ?_
      refine r_icneT rfl (by decide) ?_
      refine r_iload_1 rfl ?_
      refine r_push rfl ?_
      refine r_icneF rfl (rfl) ?_
      refine r_aload_0 rfl ?_
      refine r_invvP_0 rfl (o3) rfl rfl (by decide) (c_mhurtOnes m3 v) ?_
      refine r_iret rfl ?_
      rfl
    · refine r_iload_1 rfl ?_
      refine r_ifneT rfl (by decide) ?_
      refine r_iload_1 rfl ?_
      refine r_push rfl ?_
      refine r_icneT rfl (by decide) ?_
      refine r_iload_1 rfl ?_
      refine r_push rfl ?_
      refine r_icneT rfl (by decide) ?_
      refine r_iload_1 rfl ?_
      refine r_push rfl ?_
      refine r_icneT rfl (by decide) ?_
      refine r_iload_1 rfl ?_
      refine r_push rfl ?_
      refine r_icneT rfl (by decide) ?_
      refine r_iload_1 rfl ?_
      refine r_push rfl ?_
      refine r_icneT rfl (by decide) ?_
      refine r_iload_1 rfl ?_
      refine r_push rfl ?_
      refine r_icneT rfl (by decide) ?_
      refine r_iload_1 rfl ?_
      refine r_push rfl ?_
      refine r_push rfl ?_
      refine r_invP_3 rfl rfl (by decide) (c_isIn _ _ _) ?_
      refine r_ifeqT rfl (by rfl) ?_
      refine r_iload_1 rfl ?_
      refine r_push rfl ?_
      refine r_icneT rfl (by decide) ?_
      refine r_iload_1 rfl ?_
      refine r_push rfl ?_
      refine r_icneT rfl (by decide) ?_
      refine r_iload_1 rfl ?_
      refine r_push rfl ?_
      refine r_icneF rfl (rfl) ?_
      refine r_aload_0 rfl ?_
      refine r_getf rfl (o3) (by rfl) ?_
      refine r_push rfl ?_
      refine r_iald rfl (r3) (show (7 : Int32) = nI 7 from rfl) (by first | assumption | omega) (by first | decide | omega) ?_
      refine r_iret rfl ?_
      rfl
    · refine r_iload_1 rfl ?_
      refine r_ifneT rfl (by decide) ?_
      refine r_iload_1 rfl ?_
      refine r_push rfl ?_
      refine r_icneT rfl (by decide) ?_
      refine r_iload_1 rfl ?_
      refine r_push rfl ?_
      refine r_icneT rfl (by decide) ?_
      refine r_iload_1 rfl ?_
      refine r_push rfl ?_
      refine r_icneT rfl (by decide) ?_
      refine r_iload_1 rfl ?_
      refine r_push rfl ?_
      refine r_icneT rfl (by decide) ?_
      refine r_iload_1 rfl ?_
      refine r_push rfl ?_
      refine r_icneT rfl (by decide) ?_
      refine r_iload_1 rfl ?_
      refine r_push rfl ?_
      refine r_icneT rfl (by decide) ?_
      refine r_iload_1 rfl ?_
      refine r_push rfl ?_
      refine r_push rfl ?_
      refine r_invP_3 rfl rfl (by decide) (c_isIn _ _ _) ?_
      refine r_ifeqT rfl (by rfl) ?_
      refine r_iload_1 rfl ?_
      refine r_push rfl ?_
      refine r_icneT rfl (by decide) ?_
      refine r_iload_1 rfl ?_
      refine r_push rfl ?_
      refine r_icneT rfl (by decide) ?_
      refine r_iload_1 rfl ?_
      refine r_push rfl ?_
      refine r_icneT rfl (by decide) ?_
      refine r_iload_1 rfl ?_
      refine r_push rfl ?_
      refine r_icneF rfl (rfl) ?_
      refine r_aload_0 rfl ?_
      refine r_getf rfl (o3) (by rfl) ?_
      refine r_goto rfl ?_
      refine r_iret rfl ?_
      show Sum.inl (some (Value.int (g 6)), _) = Sum.inl (some (Value.int (nI n)), _)
      rw [e6]
      rfl
end
