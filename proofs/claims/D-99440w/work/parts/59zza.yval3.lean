/-! THE VALLEY'S TEXT: the model reads a line -/
set_option maxRecDepth 100000
theorem aft_in {T : Nat → Int32} {e a k : Nat} {w : List Int32} {lo hi n : Int32} (z : afterF T e w lo hi a = .inr (n, k)) : inF n lo hi = true := by
  unfold afterF at z
  cases c : wantF T e w a with
  | inl q => rw [c] at z; cases z
  | inr q => rw [c] at z; exact num_in z
theorem oth_in {T m : Nat → Int32} {e a k : Nat} {w : List Int32} {one n : Int32} (z : otherF T e m w one a = .inr (n, k)) : inF n 0 (m 3 - 1) = true := by
  cases c : afterF T e w 0 (m 3 - 1) a with
  | inl q => rw [other_l c] at z; cases z
  | inr q =>
    obtain ⟨n2, k2⟩ := q
    rw [other_r c] at z
    split at z
    · cases z
    · cases z; exact aft_in c
theorem vline_ok {T m m' : Nat → Int32} {e a a' : Nat} (v : VR m) (lb : LB m) (h : vlineF T e m a = .inr (m', a')) : RO m m' := by
  have hS := v.ss.2
  have hP := v.pp.2
  unfold vlineF at h
  split at h
  · unfold personF at h
    split at h
    · cases h
    · rename_i c6
      have hp6 : nP m < 6 := by
        rcases Nat.lt_or_eq_of_le hP with z | z
        · exact z
        · have e3 := v.pp.1; rw [z] at e3; exact absurd e3 c6
      cases q1 : numF T e 0 999 (wbF T e a) with
      | inl z => rw [q1] at h; cases h
      | inr p1 =>
        obtain ⟨pu, a1⟩ := p1
        rw [q1] at h; simp only [rB] at h
        cases q2 : afterF T e w_back 1 60 a1 with
        | inl z => rw [q2] at h; cases h
        | inr p2 =>
          obtain ⟨bk, a2⟩ := p2
          rw [q2] at h; simp only at h
          cases q3 : afterF T e w_at 0 11 a2 with
          | inl z => rw [q3] at h; cases h
          | inr p3 =>
            obtain ⟨wh, a3⟩ := p3
            rw [q3] at h; simp only at h
            cases q4 : goalF T e wh a3 with
            | inl z => rw [q4] at h; cases h
            | inr p4 =>
              obtain ⟨gl, a4⟩ := p4
              rw [q4] at h
              cases h
              have i3 := aft_in q3
              refine (pm_ok v lb hp6 (aft_in q2) i3 ?_).1
              unfold goalF at q4
              split at q4
              · exact num_in q4
              · cases q4; exact i3
  · split at h
    · unfold stoneF at h
      split at h
      · cases h
      · rename_i c6
        have hs10 : nS m < 10 := by
          rcases Nat.lt_or_eq_of_le hS with z | z
          · exact z
          · have e4 := v.ss.1; rw [z] at e4; exact absurd e4 c6
        cases q1 : numF T e 1 40 (wbF T e a) with
        | inl z => rw [q1] at h; cases h
        | inr p1 =>
          obtain ⟨n, a1⟩ := p1
          rw [q1] at h; simp only [rB] at h
          cases q2 : afterF T e w_of 0 (m 3 - 1) a1 with
          | inl z => rw [q2] at h; cases h
          | inr p2 =>
            obtain ⟨who, a2⟩ := p2
            rw [q2] at h; simp only at h
            cases q3 : otherF T e m w_to who a2 with
            | inl z => rw [q3] at h; cases h
            | inr p3 =>
              obtain ⟨whom, a3⟩ := p3
              rw [q3] at h; simp only at h
              cases q4 : wornByF T e m who whom a3 with
              | inl z => rw [q4] at h; cases h
              | inr p4 =>
                obtain ⟨worn, a4⟩ := p4
                rw [q4] at h
                cases h
                refine ad_ok v lb hs10 (aft_in q2) (oth_in q3) (num_in q1) ?_
                unfold wornByF at q4
                split at q4
                · exact oth_in q4
                · cases q4; exact aft_in q2
    · split at h
      · unfold slopeF at h
        cases q1 : numF T e 0 11 (wbF T e a) with
        | inl z => rw [q1] at h; cases h
        | inr p1 =>
          obtain ⟨p, a1⟩ := p1
          rw [q1] at h; simp only [rB] at h
          cases q2 : numF T e 0 3 a1 with
          | inl z => rw [q2] at h; cases h
          | inr p2 =>
            obtain ⟨n, a2⟩ := p2
            rw [q2] at h
            cases h
            obtain ⟨i, hi, rfl⟩ := inF_nI (n := 12) (by decide) (num_in q1)
            obtain ⟨j, hj, rfl⟩ := inF_nI (n := 4) (by decide) (num_in q2)
            rw [nI_clamp (by omega)]
            exact ⟨v.u (Or.inr (Or.inl ⟨by omega, by omega, ⟨j, hj, rfl⟩⟩)), lb.same (upd_ne (by omega)) (upd_ne (by omega)) (fun k hk => upd_ne (by omega)), upd_ne (by omega), upd_ne (by omega), upd_ne (by omega), fun k hk => upd_ne (by omega)⟩
      · split at h
        · unfold porchF at h
          cases q1 : numF T e 0 11 (wbF T e a) with
          | inl z => rw [q1] at h; cases h
          | inr p1 =>
            obtain ⟨p, a1⟩ := p1
            rw [q1] at h
            cases h
            obtain ⟨i, hi, rfl⟩ := inF_nI (n := 12) (by decide) (num_in q1)
            rw [nI_clamp (by omega)]
            exact ⟨v.u (Or.inr (Or.inr (Or.inl ⟨by omega, by omega, ⟨1, by decide, rfl⟩⟩))), lb.same (upd_ne (by omega)) (upd_ne (by omega)) (fun k hk => upd_ne (by omega)), upd_ne (by omega), upd_ne (by omega), upd_ne (by omega), fun k hk => upd_ne (by omega)⟩
        · split at h
          · unfold setF at h
            cases q1 : numF T e 1 99 (wbF T e a) with
            | inl z => rw [q1] at h; cases h
            | inr p1 =>
              obtain ⟨n, a1⟩ := p1
              rw [q1] at h
              cases h
              refine ⟨v.u (by omega), ⟨by rw [upd_eq]; exact in_pos (num_in q1) (by decide), fun r hr => ?_⟩, upd_ne (by omega), upd_ne (by omega), upd_ne (by omega), fun k hk => upd_ne (by omega)⟩
              have eP : nP (upd m 6 n) = nP m := by unfold nP; rw [upd_ne (by omega)]
              rw [eP] at hr
              rw [upd_ne (by omega)]
              exact lb.2 r hr
          · split at h
            · unfold setF at h
              cases q1 : numF T e 0 999 (wbF T e a) with
              | inl z => rw [q1] at h; cases h
              | inr p1 =>
                obtain ⟨n, a1⟩ := p1
                rw [q1] at h
                cases h
                exact ⟨v.u (by omega), lb.same (upd_ne (by omega)) (upd_ne (by omega)) (fun k hk => upd_ne (by omega)), upd_ne (by omega), upd_ne (by omega), upd_ne (by omega), fun k hk => upd_ne (by omega)⟩
            · cases h
section
variable {T : Nat → Int32} {e y bs : Nat} {g g' m r : Nat → Int32} {h : am_H} {G : am_G} {F : Fc}
theorem kTells (S : MS G bs h y g T e F) (h9 : g 9 = -1) (h12 : g 12 = -1) {k : Nat} (hk : k < 9) {a : Nat} (ha : a ≤ e) {lo hi : Int32} : Wc G 5 m_X6_tells [.ref y, .int (nI k), .int lo, .int hi] (mK (hr h y m) y g a) (mVL h y e g m (setF T e m k lo hi a)) := by
  have S1 := S.row h9 m
  have he := S.e400
  have o1 : ∀ {g'}, (mh (hr h y m) y g').1 (y + 1) = some (.inl (0, 769, .inl m)) := am_set_k am_set_at (by omega)
  refine wc_in mt_X6_tells rfl (L := [.ref y, .int (nI k), .int lo, .int hi, am_un]) rfl ?_
  refine r_aload_0 rfl ?_
  refine r_iload_2 rfl ?_
  refine r_iload_3 rfl ?_
  refine r_invvR rfl rfl am_set_at rfl rfl (by decide) (kFig S1 ha h12) ?_
  rintro R (⟨n, a1, q1, p1, rfl⟩ | ⟨z, a9, dp, u, q1, p1, q9, q3, rfl⟩)
  · show Wp G 5 mt_X6_tells 6 _ [.int n] (mK (hr h y m) y g a1) _
    refine r_istore_4 rfl ?_
    refine r_aload_0 rfl ?_
    refine r_getf rfl (am_set_at) (by rfl) ?_
    refine r_push rfl ?_
    refine r_icneF rfl (h12) ?_
    refine r_aload_0 rfl ?_
    refine r_getf rfl (am_set_at) (by rfl) ?_
    refine r_iload_1 rfl ?_
    refine r_iload_4 rfl ?_
    refine r_iast rfl (o1) (by rfl) (show k < 769 by omega) (by first | decide | omega) ?_
    rw [hr_row]
    refine r_vret rfl ?_
    exact Or.inl ⟨_, a1, by unfold setF; rw [q1]; rfl, p1, rfl⟩
  · show Wp G 5 mt_X6_tells 6 _ [.int u] (mh (hr h y m) y (gF g z (nI a9) dp)) _
    refine r_istore_4 rfl ?_
    refine r_aload_0 rfl ?_
    refine r_getf rfl (am_set_at) (by rfl) ?_
    refine r_push rfl ?_
    refine r_icneT rfl (by rw [gF_12]; exact nI_ne1 (by omega)) ?_
    refine r_vret rfl ?_
    exact Or.inr ⟨z, a9, dp, by unfold setF; rw [q1]; rfl, p1, q9, rfl⟩
theorem kValLine (S : MS G bs h y g T e F) (h9 : g 9 = -1) (h12 : g 12 = -1) (v : VR m) {a : Nat} (ha : a ≤ e) : Wc G 9 m_X6_valleyLine [.ref y] (mK (hr h y m) y g a) (mVL h y e g m (vlineF T e m a)) := by
  have S1 := S.row h9 m
  have he := S.e400
  have hs := sk_le T ha
  have hb := wb_le T ha
  have o1 : ∀ {g'}, (mh (hr h y m) y g').1 (y + 1) = some (.inl (0, 769, .inl m)) := am_set_k am_set_at (by omega)
  have nz : ∀ {z : Nat} {a9 : Nat} {dp : Int32}, z ≤ e → gF g z (nI a9) dp 12 ≠ -1 := fun hz => by rw [gF_12]; exact nI_ne1 (by omega)
  refine wc_in mt_X6_valleyLine rfl (L := [.ref y, am_un, am_un, am_un]) rfl ?_
  refine r_aload_0 rfl ?_
  refine r_invvU rfl rfl am_set_at rfl rfl (by decide) (kHere S1 ha) ?_
  refine r_istore_1 rfl ?_
  obtain ⟨v0, g0, hh0⟩ := kHas S1 hs 3 w_person (by decide)
  rw [wd_sk, wb_sk, sk_idem] at hh0
  cases c0 : wdF T e a w_person with
  | true =>
    rw [c0, if_pos rfl] at hh0
    have ev : vlineF T e m a = personF T e m (skF T e a) (wbF T e a) := by unfold vlineF; rw [if_pos c0]
    rw [ev]
    refine r_aload_0 rfl ?_
    refine r_globR rfl (g0) ?_
    refine r_invvU rfl rfl (am_set_at) rfl rfl (by decide) (hh0) ?_
    refine r_ifeqF rfl (by decide) ?_
    refine r_aload_0 rfl ?_
    refine r_iload_1 rfl ?_
    refine r_invvR rfl rfl am_set_at rfl rfl (by decide) (kPerson S h9 h12 v hb hs) ?_
    rintro R (⟨m2, a2, q1, p1, rfl⟩ | ⟨z, a9, dp, q1, p1, p9, rfl⟩)
    · show Wp G 9 mt_X6_valleyLine 19 _ _ _ _
      refine r_goto rfl ?_
      refine r_vret rfl ?_
      exact Or.inl ⟨m2, a2, q1, p1, rfl⟩
    · show Wp G 9 mt_X6_valleyLine 19 _ _ _ _
      refine r_goto rfl ?_
      refine r_vret rfl ?_
      exact Or.inr ⟨z, a9, dp, q1, p1, p9, rfl⟩
  | false =>
    rw [c0, if_neg (by decide)] at hh0
    refine r_aload_0 rfl ?_
    refine r_globR rfl (g0) ?_
    refine r_invvU rfl rfl (am_set_at) rfl rfl (by decide) (hh0) ?_
    refine r_ifeqT rfl (rfl) ?_
    skip
    obtain ⟨v1, g1, hh1⟩ := kHas S1 hs 4 w_stone (by decide)
    rw [wd_sk, wb_sk, sk_idem] at hh1
    cases c1 : wdF T e a w_stone with
    | true =>
      rw [c1, if_pos rfl] at hh1
      have ev : vlineF T e m a = stoneF T e m (skF T e a) (wbF T e a) := by unfold vlineF; rw [if_neg (show ¬ wdF T e a w_person = true from by rw [c0]; decide), if_pos c1]
      rw [ev]
      refine r_aload_0 rfl ?_
      refine r_globR rfl (g1) ?_
      refine r_invvU rfl rfl (am_set_at) rfl rfl (by decide) (hh1) ?_
      refine r_ifeqF rfl (by decide) ?_
      refine r_aload_0 rfl ?_
      refine r_iload_1 rfl ?_
      refine r_invvR rfl rfl am_set_at rfl rfl (by decide) (kStone S h9 h12 v hb hs) ?_
      rintro R (⟨m2, a2, q1, p1, rfl⟩ | ⟨z, a9, dp, q1, p1, p9, rfl⟩)
      · show Wp G 9 mt_X6_valleyLine 36 _ _ _ _
        refine r_goto rfl ?_
        refine r_vret rfl ?_
        exact Or.inl ⟨m2, a2, q1, p1, rfl⟩
      · show Wp G 9 mt_X6_valleyLine 36 _ _ _ _
        refine r_goto rfl ?_
        refine r_vret rfl ?_
        exact Or.inr ⟨z, a9, dp, q1, p1, p9, rfl⟩
    | false =>
      rw [c1, if_neg (by decide)] at hh1
      refine r_aload_0 rfl ?_
      refine r_globR rfl (g1) ?_
      refine r_invvU rfl rfl (am_set_at) rfl rfl (by decide) (hh1) ?_
      refine r_ifeqT rfl (rfl) ?_
      skip
      obtain ⟨v2, g2, hh2⟩ := kHas S1 hs 5 w_slope (by decide)
      rw [wd_sk, wb_sk, sk_idem] at hh2
      cases c2 : wdF T e a w_slope with
      | true =>
        rw [c2, if_pos rfl] at hh2
        have ev : vlineF T e m a = slopeF T e m (wbF T e a) := by unfold vlineF; rw [if_neg (show ¬ wdF T e a w_person = true from by rw [c0]; decide), if_neg (show ¬ wdF T e a w_stone = true from by rw [c1]; decide), if_pos c2]
        rw [ev]
        refine r_aload_0 rfl ?_
        refine r_globR rfl (g2) ?_
        refine r_invvU rfl rfl (am_set_at) rfl rfl (by decide) (hh2) ?_
        refine r_ifeqF rfl (by decide) ?_
        refine r_aload_0 rfl ?_
        refine r_push rfl ?_
        refine r_push rfl ?_
        refine r_invvR rfl rfl am_set_at rfl rfl (by decide) (kFig S1 hb h12) ?_
        rintro R (⟨p, a1, q1, p1, rfl⟩ | ⟨z, a9, dp, u, q1, p1, q9, q3, rfl⟩)
        · show Wp G 9 mt_X6_valleyLine 55 _ [.int p] (mK (hr h y m) y g a1) _
          obtain ⟨i, hi, rfl⟩ := inF_nI (n := 12) (by decide) (num_in q1)
          refine r_istore_2 rfl ?_
          refine r_aload_0 rfl ?_
          refine r_push rfl ?_
          refine r_push rfl ?_
          refine r_invvR rfl rfl am_set_at rfl rfl (by decide) (kFig S1 p1 h12) ?_
          rintro R (⟨n, a2, q2, p2, rfl⟩ | ⟨z, a9, dp, u, q2, p2, q9, q3, rfl⟩)
          · show Wp G 9 mt_X6_valleyLine 62 _ [.int n] (mK (hr h y m) y g a2) _
            refine r_istore_3 rfl ?_
            refine r_aload_0 rfl ?_
            refine r_getf rfl (am_set_at) (by rfl) ?_
            refine r_push rfl ?_
            refine r_icneF rfl (h12) ?_
            refine r_aload_0 rfl ?_
            refine r_getf rfl (am_set_at) (by rfl) ?_
            refine r_push rfl ?_
            refine r_iload_2 rfl ?_
            refine r_iadd rfl ?_
            refine r_iload_3 rfl ?_
            refine r_iast rfl (o1) (nI_add 9 i) (show 9 + i < 769 by omega) (by first | decide | omega) ?_
            rw [hr_row]
            refine r_goto rfl ?_
            refine r_vret rfl ?_
            exact Or.inl ⟨_, a2, by unfold slopeF; rw [q1]; simp only [rB]; rw [q2, nI_clamp (by omega)], p2, rfl⟩
          · show Wp G 9 mt_X6_valleyLine 62 _ [.int u] (mh (hr h y m) y (gF g z (nI a9) dp)) _
            refine r_istore_3 rfl ?_
            refine r_aload_0 rfl ?_
            refine r_getf rfl (am_set_at) (by rfl) ?_
            refine r_push rfl ?_
            refine r_icneT rfl (nz p2) ?_
            refine r_goto rfl ?_
            refine r_vret rfl ?_
            exact Or.inr ⟨z, a9, dp, by unfold slopeF; rw [q1]; simp only [rB]; rw [q2], p2, q9, rfl⟩
        · show Wp G 9 mt_X6_valleyLine 55 _ [.int u] (mh (hr h y m) y (gF g z (nI a9) dp)) _
          refine r_istore_2 rfl ?_
          refine r_aload_0 rfl ?_
          refine r_push rfl ?_
          refine r_push rfl ?_
          refine r_invvP_2 rfl (am_set_at) rfl rfl (by decide) (c_mFiguresX am_set_at (nz p1)) ?_
          refine r_istore_3 rfl ?_
          refine r_aload_0 rfl ?_
          refine r_getf rfl (am_set_at) (by rfl) ?_
          refine r_push rfl ?_
          refine r_icneT rfl (nz p1) ?_
          refine r_goto rfl ?_
          refine r_vret rfl ?_
          exact Or.inr ⟨z, a9, dp, by unfold slopeF; rw [q1]; rfl, p1, q9, rfl⟩
      | false =>
        rw [c2, if_neg (by decide)] at hh2
        refine r_aload_0 rfl ?_
        refine r_globR rfl (g2) ?_
        refine r_invvU rfl rfl (am_set_at) rfl rfl (by decide) (hh2) ?_
        refine r_ifeqT rfl (rfl) ?_
        skip
        obtain ⟨v3, g3, hh3⟩ := kHas S1 hs 6 w_porch (by decide)
        rw [wd_sk, wb_sk, sk_idem] at hh3
        cases c3 : wdF T e a w_porch with
        | true =>
          rw [c3, if_pos rfl] at hh3
          have ev : vlineF T e m a = porchF T e m (wbF T e a) := by unfold vlineF; rw [if_neg (show ¬ wdF T e a w_person = true from by rw [c0]; decide), if_neg (show ¬ wdF T e a w_stone = true from by rw [c1]; decide), if_neg (show ¬ wdF T e a w_slope = true from by rw [c2]; decide), if_pos c3]
          rw [ev]
          refine r_aload_0 rfl ?_
          refine r_globR rfl (g3) ?_
          refine r_invvU rfl rfl (am_set_at) rfl rfl (by decide) (hh3) ?_
          refine r_ifeqF rfl (by decide) ?_
          refine r_aload_0 rfl ?_
          refine r_push rfl ?_
          refine r_push rfl ?_
          refine r_invvR rfl rfl am_set_at rfl rfl (by decide) (kFig S1 hb h12) ?_
          rintro R (⟨p, a1, q1, p1, rfl⟩ | ⟨z, a9, dp, u, q1, p1, q9, q3, rfl⟩)
          · show Wp G 9 mt_X6_valleyLine 100 _ [.int p] (mK (hr h y m) y g a1) _
            obtain ⟨i, hi, rfl⟩ := inF_nI (n := 12) (by decide) (num_in q1)
            refine r_istore_2 rfl ?_
            refine r_aload_0 rfl ?_
            refine r_getf rfl (am_set_at) (by rfl) ?_
            refine r_push rfl ?_
            refine r_icneF rfl (h12) ?_
            refine r_aload_0 rfl ?_
            refine r_getf rfl (am_set_at) (by rfl) ?_
            refine r_push rfl ?_
            refine r_iload_2 rfl ?_
            refine r_iadd rfl ?_
            refine r_push rfl ?_
            refine r_iast rfl (o1) (nI_add 21 i) (show 21 + i < 769 by omega) (by first | decide | omega) ?_
            rw [hr_row]
            refine r_goto rfl ?_
            refine r_vret rfl ?_
            exact Or.inl ⟨_, a1, by unfold porchF; rw [q1]; show (Sum.inr (upd m (21 + (nI i).toNatClampNeg) 1, a1) : RD (Nat → Int32)) = _; rw [nI_clamp (by omega)], p1, rfl⟩
          · show Wp G 9 mt_X6_valleyLine 100 _ [.int u] (mh (hr h y m) y (gF g z (nI a9) dp)) _
            refine r_istore_2 rfl ?_
            refine r_aload_0 rfl ?_
            refine r_getf rfl (am_set_at) (by rfl) ?_
            refine r_push rfl ?_
            refine r_icneT rfl (nz p1) ?_
            refine r_goto rfl ?_
            refine r_vret rfl ?_
            exact Or.inr ⟨z, a9, dp, by unfold porchF; rw [q1]; rfl, p1, q9, rfl⟩
        | false =>
          rw [c3, if_neg (by decide)] at hh3
          refine r_aload_0 rfl ?_
          refine r_globR rfl (g3) ?_
          refine r_invvU rfl rfl (am_set_at) rfl rfl (by decide) (hh3) ?_
          refine r_ifeqT rfl (rfl) ?_
          skip
          obtain ⟨v4, g4, hh4⟩ := kHas S1 hs 7 w_limit (by decide)
          rw [wd_sk, wb_sk, sk_idem] at hh4
          cases c4 : wdF T e a w_limit with
          | true =>
            rw [c4, if_pos rfl] at hh4
            have ev : vlineF T e m a = setF T e m 6 1 99 (wbF T e a) := by unfold vlineF; rw [if_neg (show ¬ wdF T e a w_person = true from by rw [c0]; decide), if_neg (show ¬ wdF T e a w_stone = true from by rw [c1]; decide), if_neg (show ¬ wdF T e a w_slope = true from by rw [c2]; decide), if_neg (show ¬ wdF T e a w_porch = true from by rw [c3]; decide), if_pos c4]
            rw [ev]
            refine r_aload_0 rfl ?_
            refine r_globR rfl (g4) ?_
            refine r_invvU rfl rfl (am_set_at) rfl rfl (by decide) (hh4) ?_
            refine r_ifeqF rfl (by decide) ?_
            skip
            refine r_aload_0 rfl ?_
            refine r_push rfl ?_
            refine r_push rfl ?_
            refine r_push rfl ?_
            refine r_invvR rfl rfl am_set_at rfl rfl (by decide) (kTells S h9 h12 (k := 6) (by decide) hb) ?_
            rintro R (⟨m2, a2, q1, p1, rfl⟩ | ⟨z, a9, dp, q1, p1, p9, rfl⟩)
            · show Wp G 9 mt_X6_valleyLine 140 _ _ _ _
              refine r_goto rfl ?_
              refine r_vret rfl ?_
              exact Or.inl ⟨m2, a2, q1, p1, rfl⟩
            · show Wp G 9 mt_X6_valleyLine 140 _ _ _ _
              refine r_goto rfl ?_
              refine r_vret rfl ?_
              exact Or.inr ⟨z, a9, dp, q1, p1, p9, rfl⟩
          | false =>
            rw [c4, if_neg (by decide)] at hh4
            refine r_aload_0 rfl ?_
            refine r_globR rfl (g4) ?_
            refine r_invvU rfl rfl (am_set_at) rfl rfl (by decide) (hh4) ?_
            refine r_ifeqT rfl (rfl) ?_
            skip
            obtain ⟨v5, g5, hh5⟩ := kHas S1 hs 8 w_hour (by decide)
            rw [wd_sk, wb_sk, sk_idem] at hh5
            cases c5 : wdF T e a w_hour with
            | true =>
              rw [c5, if_pos rfl] at hh5
              have ev : vlineF T e m a = setF T e m 5 0 999 (wbF T e a) := by unfold vlineF; rw [if_neg (show ¬ wdF T e a w_person = true from by rw [c0]; decide), if_neg (show ¬ wdF T e a w_stone = true from by rw [c1]; decide), if_neg (show ¬ wdF T e a w_slope = true from by rw [c2]; decide), if_neg (show ¬ wdF T e a w_porch = true from by rw [c3]; decide), if_neg (show ¬ wdF T e a w_limit = true from by rw [c4]; decide), if_pos c5]
              rw [ev]
              refine r_aload_0 rfl ?_
              refine r_globR rfl (g5) ?_
              refine r_invvU rfl rfl (am_set_at) rfl rfl (by decide) (hh5) ?_
              refine r_ifeqF rfl (by decide) ?_
              skip
              refine r_aload_0 rfl ?_
              refine r_push rfl ?_
              refine r_push rfl ?_
              refine r_push rfl ?_
              refine r_invvR rfl rfl am_set_at rfl rfl (by decide) (kTells S h9 h12 (k := 5) (by decide) hb) ?_
              rintro R (⟨m2, a2, q1, p1, rfl⟩ | ⟨z, a9, dp, q1, p1, p9, rfl⟩)
              · show Wp G 9 mt_X6_valleyLine 161 _ _ _ _
                refine r_goto rfl ?_
                refine r_vret rfl ?_
                exact Or.inl ⟨m2, a2, q1, p1, rfl⟩
              · show Wp G 9 mt_X6_valleyLine 161 _ _ _ _
                refine r_goto rfl ?_
                refine r_vret rfl ?_
                exact Or.inr ⟨z, a9, dp, q1, p1, p9, rfl⟩
            | false =>
              rw [c5, if_neg (by decide)] at hh5
              refine r_aload_0 rfl ?_
              refine r_globR rfl (g5) ?_
              refine r_invvU rfl rfl (am_set_at) rfl rfl (by decide) (hh5) ?_
              refine r_ifeqT rfl (rfl) ?_
              skip
              have ev : vlineF T e m a = .inl (skF T e a) := by unfold vlineF; rw [if_neg (show ¬ wdF T e a w_person = true from by rw [c0]; decide), if_neg (show ¬ wdF T e a w_stone = true from by rw [c1]; decide), if_neg (show ¬ wdF T e a w_slope = true from by rw [c2]; decide), if_neg (show ¬ wdF T e a w_porch = true from by rw [c3]; decide), if_neg (show ¬ wdF T e a w_limit = true from by rw [c4]; decide), if_neg (show ¬ wdF T e a w_hour = true from by rw [c5]; decide)]
              refine r_aload_0 rfl ?_
              refine r_aload_0 rfl ?_
              refine r_getf rfl (am_set_at) (by rfl) ?_
              rw [upd_eq]
              refine r_invvV rfl rfl (am_set_at) rfl rfl (by decide) (kWrong h12) ?_
              refine r_vret rfl ?_
              exact Or.inr ⟨_, skF T e a, _, ev, hs, hs, rfl⟩
end
