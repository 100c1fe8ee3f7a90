/-! WHAT IS AHEAD: ahead, trial on both sides -/
set_option maxRecDepth 100000
section
variable {G : am_G} {bs : Nat} {S : Nat → Prop} {h h0 : am_H} {x y : Nat} {hi : Bool} {m b g mt bt : Nat → Int32} {l lt : Value}
theorem c_xAhead (q : HS G bs x (x + 1) S hi h m b l) (g1 : GEO bs x (x + 1) S) (ge : GEO bs x (x + 49) S) (qt : WA h (x + 49) mt bt lt) (p n w : Int32) : Et G 46 m_X1_ahead [.ref x, .int p, .int n, .int w] h (fun v h' => (qAhead m p n w).1 = 0 ∧ v = .int (qAhead m p n w).2 ∧ ∃ mx, HL G bs x (x + 49) S hi h b l mx h') (QX h (qAhead m p n w) (k3 20 18 21)) := by
  have o := q.2.2.2.2.2.2.1
  have v := q.2.1
  refine wc_in mt_X1_ahead rfl (L := [.ref x, .int p, .int n, .int w, am_un]) rfl ?_
  refine r_aload_0 rfl ?_
  refine r_iload_1 rfl ?_
  unfold qAhead
  cases e1 : inF p 0 (m 3 - 1) with
  | false =>
    rw [if_pos rfl]
    refine r_invvX rfl rfl o rfl rfl rfl (by decide) (c_personAtF o q.1 e1) ?_
    exact Or.inr ⟨_, _, rfl, by decide, rfl, rfl⟩
  | true =>
    rw [if_neg (by decide)]
    refine r_invvO rfl rfl o rfl rfl (by decide) (c_personAtT o q.1 e1) ?_
    refine r_iload_2 rfl ?_
    refine r_push rfl ?_
    refine r_push rfl ?_
    refine r_invP_3 rfl rfl (by decide) (c_in _ _ _) ?_
    cases e2 : inF n 0 200 with
    | false =>
      rw [if_pos rfl]
      refine r_invX rfl rfl rfl rfl (by decide) (c_demandF rfl) ?_
      exact Or.inr ⟨_, _, rfl, by decide, rfl, rfl⟩
    | true =>
      rw [if_neg (by decide)]
      refine r_invO rfl rfl rfl (by decide) (c_demandT (by decide)) ?_
      refine r_iload_3 rfl ?_
      refine r_push rfl ?_
      cases e3 : inF w 0 3 with
      | false =>
        rw [if_pos rfl]
        refine r_invX rfl rfl rfl rfl (by decide) (c_questionF e3) ?_
        exact Or.inr ⟨_, _, rfl, by decide, rfl, rfl⟩
      | true =>
        rw [if_neg (by decide)]
        refine r_invO rfl rfl rfl (by decide) (c_questionT e3) ?_
        rw [v.pp.1] at e1
        obtain ⟨i, hi6, rfl⟩ := inF_nI (by have := v.pp.2; omega) e1
        obtain ⟨k, hk, rfl⟩ := inF_nI (n := 201) (by decide) e2
        have hi9 : i < 6 := by have := v.pp.2; omega
        rw [nI_clamp (show k < 2 ^ 31 by omega), nI_clamp (show i < 2 ^ 31 by omega)]
        refine r_aload_0 rfl ?_
        refine r_iload_2 rfl ?_
        refine r_invvE rfl rfl o rfl rfl (by decide) (c_worldAt q g1 ge qt (n := k) (by omega)) ?_
        rintro r h2 ⟨rfl, K⟩
        have KK := K
        obtain ⟨⟨w2, v2, y2, -⟩, f2⟩ := K
        have ow := wa_o w2; have a1 := wa_pu w2; have a2 := wa_at w2; have a3 := wa_ti w2
        refine r_astore_4 rfl ?_
        by_cases w0 : w = 0
        · refine r_iload_3 rfl ?_
          refine r_ifneF rfl (w0) ?_
          refine r_aload_4 rfl ?_
          refine r_getf rfl (by assumption) (by rfl) ?_
          refine r_iload_1 rfl ?_
          refine r_iald rfl (a1) (by rfl) (hi9) (by first | decide | omega) ?_
          refine r_goto rfl ?_
          refine r_iret rfl ?_
          refine Or.inl ⟨_, _, rfl, rfl, ?_, _, KK⟩
          unfold aheV
          rw [if_pos w0, cl_in hi9]
        · by_cases w1 : w = 1
          · refine r_iload_3 rfl ?_
            refine r_ifneT rfl (w0) ?_
            refine r_iload_3 rfl ?_
            refine r_push rfl ?_
            refine r_icneF rfl (w1) ?_
            refine r_aload_4 rfl ?_
            refine r_getf rfl (by assumption) (by rfl) ?_
            refine r_iload_1 rfl ?_
            refine r_iald rfl (a2) (by rfl) (hi9) (by first | decide | omega) ?_
            refine r_goto rfl ?_
            refine r_iret rfl ?_
            refine Or.inl ⟨_, _, rfl, rfl, ?_, _, KK⟩
            unfold aheV
            rw [if_neg w0, if_pos w1, cl_in hi9]
          · by_cases w2' : w = 2
            · refine r_iload_3 rfl ?_
              refine r_ifneT rfl (w0) ?_
              refine r_iload_3 rfl ?_
              refine r_push rfl ?_
              refine r_icneT rfl (w1) ?_
              refine r_iload_3 rfl ?_
              refine r_push rfl ?_
              refine r_icneF rfl (w2') ?_
              refine r_aload_4 rfl ?_
              refine r_getf rfl (by assumption) (by rfl) ?_
              refine r_iload_1 rfl ?_
              refine r_iald rfl (a3) (by rfl) (hi9) (by first | decide | omega) ?_
              refine r_goto rfl ?_
              refine r_iret rfl ?_
              refine Or.inl ⟨_, _, rfl, rfl, ?_, _, KK⟩
              unfold aheV
              rw [if_neg w0, if_neg w1, if_pos w2', cl_in hi9]
            · refine r_iload_3 rfl ?_
              refine r_ifneT rfl (w0) ?_
              refine r_iload_3 rfl ?_
              refine r_push rfl ?_
              refine r_icneT rfl (w1) ?_
              refine r_iload_3 rfl ?_
              refine r_push rfl ?_
              refine r_icneT rfl (w2') ?_
              refine r_aload_4 rfl ?_
              refine r_iload_1 rfl ?_
              refine r_invvP_1 rfl (by assumption) rfl rfl (by decide) (c_load w2 v2 y2 _) ?_
              refine r_iret rfl ?_
              refine Or.inl ⟨_, _, rfl, rfl, ?_, _, KK⟩
              unfold aheV
              rw [if_neg w0, if_neg w1, if_neg w2']
theorem c_yAhead (q : MZ G bs h y g m) (as : ASD h y) (v : VR m) (yb : BY b m) (lv : LV m) (p n w : Int32) : Ev G 35 m_X6_ahead [.ref y, .int p, .int n, .int w] h (fun r h' => r = .int (qAhead m p n w).2 ∧ YL G bs y h (upd g 0 (nI (qAhead m p n w).1)) m h') := by
  have o := q.1.1
  have z1 := YL.thr q as (nI 1); have z2 := YL.thr q as (nI 2); have z4 := YL.thr q as (nI 3); have z3 := YL.thr q as (nI 0)
  refine wc_in mt_X6_ahead rfl (L := [.ref y, .int p, .int n, .int w, am_un, am_un]) rfl ?_
  unfold qAhead
  cases e0 : inF p 0 (m 3 - 1) with
  | false =>
    rw [if_pos rfl]
    refine r_aload_0 rfl ?_
    refine r_aload_0 rfl ?_
    refine r_iload_1 rfl ?_
    refine r_invvP_1 rfl (o) rfl rfl (by decide) (c_mIsPerson q.1 p) ?_
    refine r_ifneF rfl (by rw [e0]; rfl) ?_
    refine r_push rfl ?_
    refine r_goto rfl ?_
    refine r_puti rfl (o) rfl ?_
    rw [mo_0]
    refine r_aload_0 rfl ?_
    refine r_getf rfl (am_set_at) (by rfl) ?_
    refine r_ifleF rfl (by rw [upd_eq]; decide) ?_
    refine r_push rfl ?_
    refine r_iret rfl ?_
    exact ⟨_, _, rfl, rfl, z1⟩
  | true =>
    rw [if_neg (by decide)]
    cases e1 : inF n 0 200 with
    | false =>
      rw [if_pos rfl]
      refine r_aload_0 rfl ?_
      refine r_aload_0 rfl ?_
      refine r_iload_1 rfl ?_
      refine r_invvP_1 rfl (o) rfl rfl (by decide) (c_mIsPerson q.1 p) ?_
      refine r_ifneT rfl (by rw [e0]; decide) ?_
      refine r_iload_2 rfl ?_
      refine r_push rfl ?_
      refine r_push rfl ?_
      refine r_invP_3 rfl rfl (by decide) (c_isIn _ _ _) ?_
      refine r_ifneF rfl (by rw [e1]; rfl) ?_
      refine r_push rfl ?_
      refine r_goto rfl ?_
      refine r_puti rfl (o) rfl ?_
      rw [mo_0]
      refine r_aload_0 rfl ?_
      refine r_getf rfl (am_set_at) (by rfl) ?_
      refine r_ifleF rfl (by rw [upd_eq]; decide) ?_
      refine r_push rfl ?_
      refine r_iret rfl ?_
      exact ⟨_, _, rfl, rfl, z2⟩
    | true =>
      rw [if_neg (by decide)]
      cases e2 : inF w 0 3 with
      | false =>
        rw [if_pos rfl]
        refine r_aload_0 rfl ?_
        refine r_aload_0 rfl ?_
        refine r_iload_1 rfl ?_
        refine r_invvP_1 rfl (o) rfl rfl (by decide) (c_mIsPerson q.1 p) ?_
        refine r_ifneT rfl (by rw [e0]; decide) ?_
        refine r_iload_2 rfl ?_
        refine r_push rfl ?_
        refine r_push rfl ?_
        refine r_invP_3 rfl rfl (by decide) (c_isIn _ _ _) ?_
        refine r_ifneT rfl (by rw [e1]; decide) ?_
        refine r_iload_3 rfl ?_
        refine r_push rfl ?_
        refine r_push rfl ?_
        refine r_invP_3 rfl rfl (by decide) (c_isIn _ _ _) ?_
        refine r_ifneF rfl (by rw [e2]; rfl) ?_
        refine r_push rfl ?_
        refine r_goto rfl ?_
        refine r_puti rfl (o) rfl ?_
        rw [mo_0]
        refine r_aload_0 rfl ?_
        refine r_getf rfl (am_set_at) (by rfl) ?_
        refine r_ifleF rfl (by rw [upd_eq]; decide) ?_
        refine r_push rfl ?_
        refine r_iret rfl ?_
        exact ⟨_, _, rfl, rfl, z4⟩
      | true =>
        rw [if_neg (by decide)]
        have f0 := e0
        rw [v.pp.1] at f0
        obtain ⟨i, hi6, rfl⟩ := inF_nI (by have := v.pp.2; omega) f0
        have hi9 : i < 6 := by have := v.pp.2; omega
        obtain ⟨k, hk, rfl⟩ := inF_nI (n := 201) (by decide) e1
        rw [nI_clamp (show k < 2 ^ 31 by omega), nI_clamp (show i < 2 ^ 31 by omega)]
        refine r_aload_0 rfl ?_
        refine r_aload_0 rfl ?_
        refine r_iload_1 rfl ?_
        refine r_invvP_1 rfl (o) rfl rfl (by decide) (c_mIsPerson q.1 _) ?_
        refine r_ifneT rfl (by rw [e0]; decide) ?_
        refine r_iload_2 rfl ?_
        refine r_push rfl ?_
        refine r_push rfl ?_
        refine r_invP_3 rfl rfl (by decide) (c_isIn _ _ _) ?_
        refine r_ifneT rfl (by rw [e1]; decide) ?_
        refine r_iload_3 rfl ?_
        refine r_push rfl ?_
        refine r_push rfl ?_
        refine r_invP_3 rfl rfl (by decide) (c_isIn _ _ _) ?_
        refine r_ifneT rfl (by rw [e2]; decide) ?_
        refine r_push rfl ?_
        refine r_puti rfl (o) rfl ?_
        rw [mo_0]
        refine r_aload_0 rfl ?_
        refine r_getf rfl (am_set_at) (by rfl) ?_
        refine r_ifleT rfl (by rw [upd_eq]; decide) ?_
        refine r_aload_0 rfl ?_
        refine r_invvF rfl rfl am_set_at rfl rfl (by decide) (y_put z3 v yb lv) ?_
        rintro h2 q2
        have Q2 := q2
        obtain ⟨g2, q2, -⟩ := q2
        refine r_aload_0 rfl ?_
        refine r_iload_2 rfl ?_
        refine r_push rfl ?_
        refine r_invvE rfl rfl q2.1.1 rfl rfl (by decide) (y_pass Q2 (n := k) (by omega) false) ?_
        rintro r h3 ⟨rfl, q3⟩
        have Q3 := q3
        obtain ⟨g3, q3, -, v3, -⟩ := q3
        refine r_istore_4 rfl ?_
        have o3 := q3.1.1
        have fin : ∀ r, r = aheV (hourN false m k).2 i w → Wp G 35 mt_X6_ahead 112 [.ref y, .int (nI i), .int (nI k), .int w, .int (hourN false m k).1, am_un] [.int r] h3 (fun R => ∃ r h', R = .inl (some r, h') ∧ r = .int (aheV (hourN false m k).2 i w) ∧ YL G bs y h (upd g 0 (nI 0)) m h') := by
          rintro r rfl
          refine r_istore_5 rfl ?_
          refine r_aload_0 rfl ?_
          refine r_invvF rfl rfl q3.1.1 rfl rfl (by decide) (y_back Q3) ?_
          rintro h4 q4
          refine r_iload_5 rfl ?_
          refine r_iret rfl ?_
          exact ⟨_, _, rfl, rfl, q4⟩
        by_cases w0 : w = 0
        · refine r_iload_3 rfl ?_
          refine r_ifneF rfl (w0) ?_
          refine r_aload_0 rfl ?_
          refine r_iload_1 rfl ?_
          refine r_push rfl ?_
          refine r_invvP_2 rfl (by assumption) rfl rfl (by decide) (c_of0 q3.1 (by omega)) ?_
          refine r_goto rfl ?_
          refine fin _ ?_
          unfold aheV
          rw [if_pos w0]
        · by_cases w1 : w = 1
          · refine r_iload_3 rfl ?_
            refine r_ifneT rfl (w0) ?_
            refine r_iload_3 rfl ?_
            refine r_push rfl ?_
            refine r_icneF rfl (w1) ?_
            refine r_aload_0 rfl ?_
            refine r_iload_1 rfl ?_
            refine r_push rfl ?_
            refine r_invvP_2 rfl (by assumption) rfl rfl (by decide) (c_of2 q3.1 (by omega)) ?_
            refine r_goto rfl ?_
            refine fin _ ?_
            unfold aheV
            rw [if_neg w0, if_pos w1]
          · by_cases w2' : w = 2
            · refine r_iload_3 rfl ?_
              refine r_ifneT rfl (w0) ?_
              refine r_iload_3 rfl ?_
              refine r_push rfl ?_
              refine r_icneT rfl (w1) ?_
              refine r_iload_3 rfl ?_
              refine r_push rfl ?_
              refine r_icneF rfl (w2') ?_
              refine r_aload_0 rfl ?_
              refine r_iload_1 rfl ?_
              refine r_push rfl ?_
              refine r_invvP_2 rfl (by assumption) rfl rfl (by decide) (c_of4 q3.1 (by omega)) ?_
              refine r_goto rfl ?_
              refine fin _ ?_
              unfold aheV
              rw [if_neg w0, if_neg w1, if_pos w2']
            · refine r_iload_3 rfl ?_
              refine r_ifneT rfl (w0) ?_
              refine r_iload_3 rfl ?_
              refine r_push rfl ?_
              refine r_icneT rfl (w1) ?_
              refine r_iload_3 rfl ?_
              refine r_push rfl ?_
              refine r_icneT rfl (w2') ?_
              refine r_aload_0 rfl ?_
              refine r_iload_1 rfl ?_
              refine r_invvP_1 rfl (by assumption) rfl rfl (by decide) (c_mload q3.1 v3 _) ?_
              refine fin _ ?_
              unfold aheV
              rw [if_neg w0, if_neg w1, if_neg w2']
theorem c_xTrial (q : HS G bs x (x + 1) S hi h m b l) (g1 : GEO bs x (x + 1) S) (ge : GEO bs x (x + 72) S) (qt : WA h (x + 72) mt bt lt) (n hu : Int32) : Et G 46 m_X1_trial [.ref x, .int n, .int hu] h (fun v h' => (qTrial m n hu).1 = 0 ∧ v = .int (qTrial m n hu).2 ∧ ∃ mx, HL G bs x (x + 72) S hi h b l mx h') (QX h (qTrial m n hu) (k1 18)) := by
  have o := q.2.2.2.2.2.2.1
  have ot := wa_o qt
  refine wc_in mt_X1_trial rfl (L := [.ref x, .int n, .int hu]) rfl ?_
  refine r_iload_1 rfl ?_
  refine r_push rfl ?_
  refine r_push rfl ?_
  refine r_invP_3 rfl rfl (by decide) (c_in _ _ _) ?_
  unfold qTrial
  cases e : inF n 0 100 with
  | false =>
    rw [if_pos rfl]
    refine r_invX rfl rfl rfl rfl (by decide) (c_demandF rfl) ?_
    exact Or.inr ⟨_, _, rfl, by decide, rfl, rfl⟩
  | true =>
    rw [if_neg (by decide)]
    refine r_invO rfl rfl rfl (by decide) (c_demandT (by decide)) ?_
    obtain ⟨k, hk, rfl⟩ := inF_nI (n := 101) (by decide) e
    rw [nI_clamp (show k < 2 ^ 31 by omega)]
    refine r_aload_0 rfl ?_
    refine r_getf rfl o rfl ?_
    refine r_aload_0 rfl ?_
    refine r_getf rfl o rfl ?_
    refine r_invvE rfl rfl ot rfl rfl (by decide) (c_like q g1 ge qt (by omega)) ?_
    rintro r h1 ⟨rfl, k1⟩
    refine r_popR rfl ?_
    refine r_aload_0 rfl ?_
    refine r_iload_1 rfl ?_
    refine r_invvF rfl rfl k1.1.2.2.2.2.2.2.1 rfl rfl (by decide) (c_tries k1 ge (n := k) (by omega)) ?_
    rintro h2 K
    have KK := K
    obtain ⟨⟨w2, v2, y2, -, -, -, o2, -⟩, f2⟩ := K
    have ow := wa_o w2
    by_cases c : hu = 0
    · refine r_iload_2 rfl ?_
      refine r_ifeqT rfl (c) ?_
      refine r_aload_0 rfl ?_
      refine r_getf rfl (by assumption) (by rfl) ?_
      refine r_invvP_0 rfl (by assumption) rfl rfl (by decide) (c_purses w2 v2) ?_
      refine r_iret rfl ?_
      refine Or.inl ⟨_, _, rfl, rfl, ?_, _, KK⟩
      rw [if_pos c]
    · refine r_iload_2 rfl ?_
      refine r_ifeqF rfl (c) ?_
      refine r_aload_0 rfl ?_
      refine r_getf rfl (by assumption) (by rfl) ?_
      refine r_invvP_0 rfl (by assumption) rfl rfl (by decide) (c_hurtOnes w2 v2) ?_
      refine r_goto rfl ?_
      refine r_iret rfl ?_
      refine Or.inl ⟨_, _, rfl, rfl, ?_, _, KK⟩
      rw [if_neg c]
theorem c_yTrial (q : MZ G bs h y g m) (as : ASD h y) (v : VR m) (yb : BY b m) (lv : LV m) (n hu : Int32) : Ev G 35 m_X6_trial [.ref y, .int n, .int hu] h (fun r h' => r = .int (qTrial m n hu).2 ∧ YL G bs y h (upd g 0 (nI (qTrial m n hu).1)) m h') := by
  have o := q.1.1
  have z1 := YL.thr q as (nI 1); have z3 := YL.thr q as (nI 0)
  refine wc_in mt_X6_trial rfl (L := [.ref y, .int n, .int hu, am_un, am_un]) rfl ?_
  unfold qTrial
  cases e1 : inF n 0 100 with
  | false =>
    rw [if_pos rfl]
    refine r_aload_0 rfl ?_
    refine r_iload_1 rfl ?_
    refine r_push rfl ?_
    refine r_push rfl ?_
    refine r_invP_3 rfl rfl (by decide) (c_isIn _ _ _) ?_
    refine r_ifneF rfl (by rw [e1]; rfl) ?_
    refine r_push rfl ?_
    refine r_goto rfl ?_
    refine r_puti rfl (o) rfl ?_
    rw [mo_0]
    refine r_aload_0 rfl ?_
    refine r_getf rfl (am_set_at) (by rfl) ?_
    refine r_ifleF rfl (by rw [upd_eq]; decide) ?_
    refine r_push rfl ?_
    refine r_iret rfl ?_
    exact ⟨_, _, rfl, rfl, z1⟩
  | true =>
    rw [if_neg (by decide)]
    obtain ⟨k, hk, rfl⟩ := inF_nI (n := 101) (by decide) e1
    rw [nI_clamp (show k < 2 ^ 31 by omega)]
    refine r_aload_0 rfl ?_
    refine r_iload_1 rfl ?_
    refine r_push rfl ?_
    refine r_push rfl ?_
    refine r_invP_3 rfl rfl (by decide) (c_isIn _ _ _) ?_
    refine r_ifneT rfl (by rw [e1]; decide) ?_
    refine r_push rfl ?_
    refine r_puti rfl (o) rfl ?_
    rw [mo_0]
    refine r_aload_0 rfl ?_
    refine r_getf rfl (am_set_at) (by rfl) ?_
    refine r_ifleT rfl (by rw [upd_eq]; decide) ?_
    refine r_aload_0 rfl ?_
    refine r_invvF rfl rfl am_set_at rfl rfl (by decide) (y_put z3 v yb lv) ?_
    rintro h2 q2
    have Q2 := q2
    obtain ⟨g2, q2, -⟩ := q2
    refine r_aload_0 rfl ?_
    refine r_iload_1 rfl ?_
    refine r_push rfl ?_
    refine r_invvE rfl rfl q2.1.1 rfl rfl (by decide) (y_pass Q2 (n := k) (by omega) true) ?_
    rintro r h3 ⟨rfl, q3⟩
    have Q3 := q3
    obtain ⟨g3, q3, -, v3, -⟩ := q3
    have o3 := q3.1.1
    by_cases c : hu = 0
    · refine r_istore_3 rfl ?_
      refine r_iload_2 rfl ?_
      refine r_ifeqT rfl (c) ?_
      refine r_aload_0 rfl ?_
      refine r_invvP_0 rfl (by assumption) rfl rfl (by decide) (c_mpurses q3.1 v3) ?_
      refine r_istore_4 rfl ?_
      refine r_aload_0 rfl ?_
      refine r_invvF rfl rfl (by assumption) rfl rfl (by decide) (y_back Q3) ?_
      rintro h4 q4
      refine r_iload_4 rfl ?_
      refine r_iret rfl ?_
      refine ⟨_, _, rfl, ?_, q4⟩
      rw [if_pos c]
    · refine r_istore_3 rfl ?_
      refine r_iload_2 rfl ?_
      refine r_ifeqF rfl (c) ?_
      refine r_aload_0 rfl ?_
      refine r_invvP_0 rfl (by assumption) rfl rfl (by decide) (c_mhurtOnes q3.1 v3) ?_
      refine r_goto rfl ?_
      refine r_istore_4 rfl ?_
      refine r_aload_0 rfl ?_
      refine r_invvF rfl rfl (by assumption) rfl rfl (by decide) (y_back Q3) ?_
      rintro h4 q4
      refine r_iload_4 rfl ?_
      refine r_iret rfl ?_
      refine ⟨_, _, rfl, ?_, q4⟩
      rw [if_neg c]
end
