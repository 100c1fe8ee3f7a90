/-! WHAT IS AHEAD: span of the model -/
set_option maxRecDepth 100000
section
variable {G : am_G} {bs : Nat} {h h0 : am_H} {y : Nat} {m b g g0 mt : Nat → Int32}
theorem y_back2 (q : YA G bs y h0 g0 b m mt h) (v : VR m) (yb : BY b m) (lv : LV m) : En G 0 m_X6_comesBack [.ref y] h (fun h' => YA G bs y h0 g0 b m m h') := by
  obtain ⟨g1, q1, ⟨a, ha, as⟩, v2, yb2, lv2, kr, k1, f1⟩ := q
  have e : cpN a mt 0 0 369 = m := by
    funext k
    rw [cpN_at]
    by_cases c : k < 369
    · rw [if_pos (by omega), show 0 + (k - 0) = k by omega]; exact ha k c
    · rw [if_neg (by omega)]; exact kr.1.2.2 k (by omega)
  have c := c_mcomesBack (G := G) q1.1 as
  rw [e] at c
  refine wc_mono (fun R hR => ?_) c
  have z := q1.sm (m' := m)
  exact ⟨_, hR, g1, z.1, ⟨a, ha, am_set_k as (by omega)⟩, v, yb, lv, KR.refl, k1, HF.trans f1 (z.2.mono (fun _ w => PP_TQ w) (Nat.le_refl _) (Nat.le_refl _))⟩
theorem YA.row (q : YA G bs y h0 g0 b m mt h) {m' : Nat → Int32} (ok : VR m' ∧ BY b m' ∧ KR mt m') : YA G bs y h0 g0 b m m' (am_set h (y + 1) (.inl (0, 769, .inl m'))) := by
  obtain ⟨g1, q1, ⟨a, ha, as⟩, v2, yb2, lv2, kr, k1, f1⟩ := q
  have z := q1.sm (m' := m')
  exact ⟨g1, z.1, ⟨a, ha, am_set_k as (by omega)⟩, ok.1, ok.2.1, lv2.kr ok.2.2, kr.trans ok.2.2, k1, HF.trans f1 (z.2.mono (fun _ w => PP_TQ w) (Nat.le_refl _) (Nat.le_refl _))⟩
theorem c_ySpan (q : MZ G bs h y g m) (as : ASD h y) (v : VR m) (yb : BY b m) (lv : LV m) (n most : Int32) : Ev G 35 m_X6_span [.ref y, .int n, .int most] h (fun r h' => r = .int (qSpan m n most).2 ∧ YL G bs y h (upd g 0 (nI (qSpan m n most).1)) m h') := by
  have o := q.1.1
  have z1 := YL.thr q as (nI 1); have z3 := YL.thr q as (nI 0)
  refine wc_in mt_X6_span rfl (L := [.ref y, .int n, .int most, am_un, am_un, am_un, am_un]) rfl ?_
  unfold qSpan
  cases e1 : inF n 0 100 with
  | false =>
    rw [if_pos rfl]
    refine r_aload_0 rfl ?_
    refine r_iload_1 rfl ?_
    refine r_push rfl ?_
    refine r_push rfl ?_
    refine r_invP_3 rfl rfl (by decide) (c_isIn _ _ _) ?_
    refine r_ifneF rfl (by rw [e1]; rfl) ?_
    refine r_push rfl ?_
    refine r_goto rfl ?_
    refine r_puti rfl (o) rfl ?_
    rw [mo_0]
    refine r_aload_0 rfl ?_
    refine r_getf rfl (am_set_at) (by rfl) ?_
    refine r_ifleF rfl (by rw [upd_eq]; decide) ?_
    refine r_push rfl ?_
    refine r_iret rfl ?_
    exact ⟨_, _, rfl, rfl, z1⟩
  | true =>
    rw [if_neg (by decide)]
    obtain ⟨k, hk, rfl⟩ := inF_nI (n := 101) (by decide) e1
    rw [nI_clamp (show k < 2 ^ 31 by omega)]
    have gen : ∃ z6, z6 = spN m k most 6 := ⟨_, rfl⟩
    obtain ⟨z6, ez6⟩ := gen
    rw [← ez6]
    refine r_aload_0 rfl ?_
    refine r_iload_1 rfl ?_
    refine r_push rfl ?_
    refine r_push rfl ?_
    refine r_invP_3 rfl rfl (by decide) (c_isIn _ _ _) ?_
    refine r_ifneT rfl (by rw [e1]; decide) ?_
    refine r_push rfl ?_
    refine r_puti rfl (o) rfl ?_
    rw [mo_0]
    refine r_aload_0 rfl ?_
    refine r_getf rfl (am_set_at) (by rfl) ?_
    refine r_ifleT rfl (by rw [upd_eq]; decide) ?_
    refine r_aload_0 rfl ?_
    refine r_invvF rfl rfl am_set_at rfl rfl (by decide) (y_put z3 v yb lv) ?_
    rintro h2 q2
    refine r_push rfl ?_
    refine r_istore_3 rfl ?_
    refine r_push rfl ?_
    refine r_istore_4 rfl ?_
    refine wp_forH 6 (fun j L h' => (∃ x5 x6, L = [.ref y, .int (nI k), .int most, .int (spN m k most j), .int (nI (j + 1)), x5, x6]) ∧ YA G bs y h (upd g 0 (nI 0)) b m m h') (fun j L h' hj hI kont => ?_) (fun L h' hI => ?_) _ _ ⟨⟨am_un, am_un, rfl⟩, q2⟩
    · obtain ⟨⟨x5, x6, rfl⟩, q3⟩ := hI
      have Q3 := q3
      obtain ⟨g3, q3, -⟩ := q3
      have o3 := q3.1.1; have r3 := q3.1.2
      refine r_iload_4 rfl ?_
      refine r_push rfl ?_
      refine r_icgtF rfl (nI_le (a := j + 1) (b := 6) (by omega) (by decide)) ?_
      refine r_aload_0 rfl ?_
      refine r_getf rfl o3 rfl ?_
      refine r_push rfl ?_
      refine r_iload_4 rfl ?_
      refine r_iast rfl r3 (show (8 : Int32) = nI 8 from rfl) (by decide) (by decide) ?_
      have q4 := Q3.row (seed_ok v yb (nI (j + 1)))
      have Q4 := q4
      obtain ⟨g4, q4, -⟩ := q4
      refine r_aload_0 rfl ?_
      refine r_iload_1 rfl ?_
      refine r_push rfl ?_
      refine r_invvE rfl rfl q4.1.1 rfl rfl (by decide) (y_pass Q4 (n := k) (by omega) true) ?_
      rintro r h5 ⟨rfl, q5⟩
      have Q5 := q5
      obtain ⟨g5, q5, -, v5, -⟩ := q5
      refine r_istore_5 rfl ?_
      refine r_aload_0 rfl ?_
      refine r_invvP_0 rfl q5.1.1 rfl rfl (by decide) (c_mhurtOnes q5.1 v5) ?_
      refine r_invP_1 rfl rfl (by decide) (c_mbits _) ?_
      change Wp G 35 mt_X6_span 68 _ [.int (manyF m k (j + 1))] _ _
      refine r_istore_6 rfl ?_
      refine r_aload_0 rfl ?_
      refine r_invvF rfl rfl q5.1.1 rfl rfl (by decide) (y_back2 Q5 v yb lv) ?_
      rintro h6 q6
      have fin : ∀ r, r = spN m k most (j + 1) → Wp G 35 mt_X6_span 103 [.ref y, .int (nI k), .int most, .int (spN m k most j), .int (nI (j + 1)), .int (hourN true (upd m 8 (nI (j + 1))) k).1, .int (manyF m k (j + 1))] [.int r] h6 (fun R => ∃ r h', R = .inl (some r, h') ∧ r = .int (0, z6).2 ∧ YL G bs y h (upd g 0 (nI (0, z6).1)) m h') := by
        rintro r rfl
        refine r_istore_3 rfl ?_
        refine r_iinc_4 rfl ?_
        refine r_goto rfl ?_
        rw [nI_1]
        exact kont _ _ ⟨⟨_, _, rfl⟩, q6⟩
      rw [spN] at fin
      generalize manyF m k (j + 1) = mn at *
      generalize (hourN true (upd m 8 (nI (j + 1))) k).1 = cc at *
      by_cases c : spN m k most j = -1
      · rw [if_pos c] at fin
        refine r_iload_3 rfl ?_
        refine r_push rfl ?_
        refine r_icneF rfl (c) ?_
        refine r_iload_6 rfl ?_
        refine r_goto rfl ?_
        exact fin _ rfl
      · rw [if_neg c] at fin
        by_cases d : most = 0
        · rw [if_pos d] at fin
          refine r_iload_3 rfl ?_
          refine r_push rfl ?_
          refine r_icneT rfl (c) ?_
          refine r_iload_2 rfl ?_
          refine r_ifeqT rfl (d) ?_
          refine r_iload_3 rfl ?_
          refine r_iload_6 rfl ?_
          refine r_invP_2 rfl rfl (by decide) (c_lesser _ _) ?_
          exact fin _ rfl
        · rw [if_neg d] at fin
          refine r_iload_3 rfl ?_
          refine r_push rfl ?_
          refine r_icneT rfl (c) ?_
          refine r_iload_2 rfl ?_
          refine r_ifeqF rfl (d) ?_
          refine r_iload_3 rfl ?_
          refine r_iload_6 rfl ?_
          refine r_invP_2 rfl rfl (by decide) (c_greater _ _) ?_
          refine r_goto rfl ?_
          exact fin _ rfl
    · obtain ⟨⟨x5, x6, rfl⟩, q3⟩ := hI
      rw [← ez6]
      refine r_iload_4 rfl ?_
      refine r_push rfl ?_
      refine r_icgtT rfl (by decide) ?_
      refine r_iload_3 rfl ?_
      refine r_iret rfl ?_
      exact ⟨_, _, rfl, rfl, q3.yl⟩
end
