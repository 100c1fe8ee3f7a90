/-! THE VALLEY'S TEXT: the model reads a person, a stone -/
set_option maxRecDepth 100000
/-- what a line of the valley answers -/
def mVL (h : am_H) (y e : Nat) (g m : Nat → Int32) (res : RD (Nat → Int32)) (R : am_O) : Prop := (∃ m' a', res = .inr (m', a') ∧ a' ≤ e ∧ R = .inl (none, mK (hr h y m') y g a')) ∨ (∃ z a9 dp, res = .inl z ∧ z ≤ e ∧ a9 ≤ e ∧ R = .inl (none, mh (hr h y m) y (gF g z (nI a9) dp)))
section
variable {T : Nat → Int32} {e y bs : Nat} {g g' m r : Nat → Int32} {h : am_H} {G : am_G} {F : Fc}
theorem hr_row {g1 : Nat → Int32} : am_set (mh (hr h y m) y g1) (y + 1) (.inl (0, 769, .inl r)) = mh (hr h y r) y g1 := by
  rw [am_set_comm (a := y) (c := y + 1) (by omega), am_set_set]
theorem mmK {g1 : Nat → Int32} : MM (mh (hr h y m) y g1) y g1 m := ⟨am_set_at, am_set_k am_set_at (by omega)⟩
theorem kPerson (S : MS G bs h y g T e F) (h9 : g 9 = -1) (h12 : g 12 = -1) (v : VR m) {a bb : Nat} (ha : a ≤ e) (hbb : bb ≤ e) : Wc G 8 m_X6_personLine [.ref y, .int (nI bb)] (mK (hr h y m) y g a) (mVL h y e g m (personF T e m bb a)) := by
  have S1 := S.row h9 m
  have e3 := v.pp.1
  have hP := v.pp.2
  have he := S.e400
  have o1 : ∀ {g'}, (mh (hr h y m) y g').1 (y + 1) = some (.inl (0, 769, .inl m)) := am_set_k am_set_at (by omega)
  have nz : ∀ {z : Nat} {a9 : Nat} {dp : Int32}, z ≤ e → gF g z (nI a9) dp 12 ≠ -1 := fun hz => by rw [gF_12]; exact nI_ne1 (by omega)
  obtain ⟨vB, gB, -⟩ := S.og.s 9 w_back (by decide)
  obtain ⟨vA, gA, -⟩ := S.og.s 10 w_at (by decide)
  refine wc_in mt_X6_personLine rfl (L := [.ref y, .int (nI bb), am_un, am_un, am_un, am_un, am_un]) rfl ?_
  by_cases c6 : m 3 = 6
  · have eF : personF T e m bb a = .inl bb := by unfold personF; rw [if_pos c6]
    refine r_aload_0 rfl ?_
    refine r_getf rfl (am_set_at) (by rfl) ?_
    refine r_push rfl ?_
    refine r_iald rfl (o1) (show (3 : Int32) = nI 3 from rfl) (by first | assumption | omega) (by first | decide | omega) ?_
    refine r_push rfl ?_
    refine r_icneF rfl (c6) ?_
    refine r_aload_0 rfl ?_
    refine r_iload_1 rfl ?_
    refine r_invvV rfl rfl (am_set_at) rfl rfl (by decide) (kWrong h12) ?_
    refine r_aload_0 rfl ?_
    refine r_push rfl ?_
    refine r_push rfl ?_
    refine r_invvP_2 rfl (am_set_at) rfl rfl (by decide) (c_mFiguresX am_set_at (nz hbb)) ?_
    refine r_istore_2 rfl ?_
    refine r_aload_0 rfl ?_
    refine r_globR rfl (gB) ?_
    refine r_push rfl ?_
    refine r_push rfl ?_
    refine r_invvP_3 rfl (am_set_at) rfl rfl (by decide) (kAfterX am_set_at (nz hbb)) ?_
    refine r_istore_3 rfl ?_
    refine r_aload_0 rfl ?_
    refine r_globR rfl (gA) ?_
    refine r_push rfl ?_
    refine r_push rfl ?_
    refine r_invvP_3 rfl (am_set_at) rfl rfl (by decide) (kAfterX am_set_at (nz hbb)) ?_
    refine r_istore_4 rfl ?_
    refine r_aload_0 rfl ?_
    refine r_getf rfl (am_set_at) (by rfl) ?_
    refine r_push rfl ?_
    refine r_icneT rfl (nz hbb) ?_
    refine r_iload_4 rfl ?_
    refine r_istore_5 rfl ?_
    refine r_aload_0 rfl ?_
    refine r_getf rfl (am_set_at) (by rfl) ?_
    refine r_push rfl ?_
    refine r_iceqF rfl (nz hbb) ?_
    refine r_vret rfl ?_
    exact Or.inr ⟨_, a, _, eF, hbb, ha, rfl⟩
  · have hp6 : nP m < 6 := by
      rcases Nat.lt_or_eq_of_le hP with z | z
      · exact z
      · rw [z] at e3; exact absurd e3 c6
    have eF : personF T e m bb a = rB (numF T e 0 999 a) fun pu a => rB (afterF T e w_back 1 60 a) fun bk a => rB (afterF T e w_at 0 11 a) fun wh a => rB (goalF T e wh a) fun gl a => .inr (pm m (m 3) bk wh gl pu, a) := by unfold personF; rw [if_neg c6]
    refine r_aload_0 rfl ?_
    refine r_getf rfl (am_set_at) (by rfl) ?_
    refine r_push rfl ?_
    refine r_iald rfl (o1) (show (3 : Int32) = nI 3 from rfl) (by first | assumption | omega) (by first | decide | omega) ?_
    refine r_push rfl ?_
    refine r_icneT rfl (c6) ?_
    refine r_aload_0 rfl ?_
    refine r_push rfl ?_
    refine r_push rfl ?_
    refine r_invvR rfl rfl am_set_at rfl rfl (by decide) (kFig S1 ha h12) ?_
    rintro R (⟨pu, a1, q1, p1, rfl⟩ | ⟨z, a9, dp, u, q1, p1, q9, q3, rfl⟩)
    · show Wp G 8 mt_X6_personLine 24 _ [.int pu] (mK (hr h y m) y g a1) _
      refine r_istore_2 rfl ?_
      refine r_aload_0 rfl ?_
      refine r_globR rfl gB ?_
      refine r_push rfl ?_
      refine r_push rfl ?_
      refine r_invvR rfl rfl am_set_at rfl rfl (by decide) (kAfter S1 p1 h12 (k := 9) (w := w_back) (by decide) gB) ?_
      rintro R (⟨bk, a2, q2, p2, rfl⟩ | ⟨z, a9, dp, u, q2, p2, q9, q3, rfl⟩)
      · show Wp G 8 mt_X6_personLine 34 _ [.int bk] (mK (hr h y m) y g a2) _
        refine r_istore_3 rfl ?_
        refine r_aload_0 rfl ?_
        refine r_globR rfl gA ?_
        refine r_push rfl ?_
        refine r_push rfl ?_
        refine r_invvR rfl rfl am_set_at rfl rfl (by decide) (kAfter S1 p2 h12 (k := 10) (w := w_at) (by decide) gA) ?_
        rintro R (⟨wh, a3, q3, p3, rfl⟩ | ⟨z, a9, dp, u, q3, p3, q9, q4, rfl⟩)
        · show Wp G 8 mt_X6_personLine 44 _ [.int wh] (mK (hr h y m) y g a3) _
          have fin : ∀ (gl : Int32) (a4 : Nat), goalF T e wh a3 = .inr (gl, a4) → a4 ≤ e → Wp G 8 mt_X6_personLine 75 [.ref y, .int (nI bb), .int pu, .int bk, .int wh, am_un, am_un] [.int gl] (mK (hr h y m) y g a4) (mVL h y e g m (personF T e m bb a)) := by
            intro gl a4 q4 p4
            have er : personF T e m bb a = .inr (pm m (m 3) bk wh gl pu, a4) := by rw [eF, q1]; simp only [rB]; rw [q2]; simp only; rw [q3]; simp only; rw [q4]
            have ec : (m 3).toNatClampNeg = nP m := rfl
            obtain ⟨s, hs⟩ : ∃ s, s = nP m := ⟨_, rfl⟩
            rw [← hs] at e3 hp6 ec
            refine r_istore_5 rfl ?_
            refine r_aload_0 rfl ?_
            refine r_getf rfl (am_set_at) (by rfl) ?_
            refine r_push rfl ?_
            refine r_iceqT rfl (h12) ?_
            refine r_aload_0 rfl ?_
            refine r_getf rfl (am_set_at) (by rfl) ?_
            refine r_push rfl ?_
            refine r_iald rfl (o1) (show (3 : Int32) = nI 3 from rfl) (by first | assumption | omega) (by first | decide | omega) ?_
            rw [e3]
            refine r_istore_6 rfl ?_
            refine r_aload_0 rfl ?_
            refine r_iload_6 rfl ?_
            refine r_push rfl ?_
            refine r_iload_2 rfl ?_
            refine r_invvV rfl rfl (am_set_at) rfl rfl (by decide) (c_pt0 mmK (by omega)) ?_
            rw [hr_row]
            refine r_aload_0 rfl ?_
            refine r_iload_6 rfl ?_
            refine r_push rfl ?_
            refine r_iload_3 rfl ?_
            refine r_invvV rfl rfl (am_set_at) rfl rfl (by decide) (c_pt1 mmK (by omega)) ?_
            rw [hr_row]
            refine r_aload_0 rfl ?_
            refine r_iload_6 rfl ?_
            refine r_push rfl ?_
            refine r_iload_4 rfl ?_
            refine r_invvV rfl rfl (am_set_at) rfl rfl (by decide) (c_pt2 mmK (by omega)) ?_
            rw [hr_row]
            refine r_aload_0 rfl ?_
            refine r_iload_6 rfl ?_
            refine r_push rfl ?_
            refine r_iload_5 rfl ?_
            refine r_invvV rfl rfl (am_set_at) rfl rfl (by decide) (c_pt3 mmK (by omega)) ?_
            rw [hr_row]
            refine r_aload_0 rfl ?_
            refine r_iload_6 rfl ?_
            refine r_push rfl ?_
            refine r_push rfl ?_
            refine r_invvV rfl rfl (am_set_at) rfl rfl (by decide) (c_pt4 mmK (by omega)) ?_
            rw [hr_row]
            refine r_aload_0 rfl ?_
            refine r_iload_6 rfl ?_
            refine r_push rfl ?_
            refine r_push rfl ?_
            refine r_invvV rfl rfl (am_set_at) rfl rfl (by decide) (c_pt5 mmK (by omega)) ?_
            rw [hr_row]
            refine r_aload_0 rfl ?_
            refine r_getf rfl (am_set_at) (by rfl) ?_
            refine r_push rfl ?_
            refine r_dup2 rfl ?_
            refine r_iald rfl (mmK.2) (show (3 : Int32) = nI 3 from rfl) (by first | assumption | omega) (by first | decide | omega) ?_
            refine r_push rfl ?_
            refine r_iadd rfl ?_
            refine r_iast rfl (mmK.2) (show (3 : Int32) = nI 3 from rfl) (by first | assumption | omega) (by first | decide | omega) ?_
            rw [hr_row]
            refine r_vret rfl ?_
            refine Or.inl ⟨_, a4, er, p4, ?_⟩
            rw [show upd (upd (upd (upd (upd (upd m (33 + 6 * s) pu) (34 + 6 * s) bk) (35 + 6 * s) wh) (36 + 6 * s) gl) (37 + 6 * s) 0) (38 + 6 * s) 0 3 = m 3 by rw [upd_ne (by omega), upd_ne (by omega), upd_ne (by omega), upd_ne (by omega), upd_ne (by omega), upd_ne (by omega)]]
            unfold pm
            rw [ec]
          obtain ⟨vG, gG, hg⟩ := kHas S1 p3 11 w_goal (by decide)
          have hb3 := wb_le T p3
          cases cg : wdF T e a3 w_goal with
          | true =>
            rw [cg, if_pos rfl] at hg
            have eg : goalF T e wh a3 = numF T e 0 11 (wbF T e a3) := by unfold goalF; rw [if_pos cg]
            refine r_istore_4 rfl ?_
            refine r_aload_0 rfl ?_
            refine r_getf rfl (am_set_at) (by rfl) ?_
            refine r_push rfl ?_
            refine r_icneF rfl (h12) ?_
            refine r_aload_0 rfl ?_
            refine r_globR rfl (gG) ?_
            refine r_invvU rfl rfl (am_set_at) rfl rfl (by decide) (hg) ?_
            refine r_ifeqF rfl (by decide) ?_
            refine r_aload_0 rfl ?_
            refine r_push rfl ?_
            refine r_push rfl ?_
            refine r_invvR rfl rfl am_set_at rfl rfl (by decide) (kFig S1 hb3 h12) ?_
            rintro R (⟨gl, a4, q4, p4, rfl⟩ | ⟨z, a9, dp, u, q4, p4, q9, q5, rfl⟩)
            · show Wp G 8 mt_X6_personLine 70 _ [.int gl] (mK (hr h y m) y g a4) _
              refine r_goto rfl ?_
              exact fin gl a4 (eg.trans q4) p4
            · show Wp G 8 mt_X6_personLine 70 _ [.int u] (mh (hr h y m) y (gF g z (nI a9) dp)) _
              refine r_goto rfl ?_
              refine r_istore_5 rfl ?_
              refine r_aload_0 rfl ?_
              refine r_getf rfl (am_set_at) (by rfl) ?_
              refine r_push rfl ?_
              refine r_iceqF rfl (nz p4) ?_
              refine r_vret rfl ?_
              exact Or.inr ⟨z, a9, dp, by rw [eF, q1]; simp only [rB]; rw [q2]; simp only; rw [q3]; simp only; rw [eg.trans q4], p4, q9, rfl⟩
          | false =>
            rw [cg, if_neg (by decide)] at hg
            have eg : goalF T e wh a3 = .inr (wh, skF T e a3) := by unfold goalF; rw [if_neg (by rw [cg]; decide)]
            refine r_istore_4 rfl ?_
            refine r_aload_0 rfl ?_
            refine r_getf rfl (am_set_at) (by rfl) ?_
            refine r_push rfl ?_
            refine r_icneF rfl (h12) ?_
            refine r_aload_0 rfl ?_
            refine r_globR rfl (gG) ?_
            refine r_invvU rfl rfl (am_set_at) rfl rfl (by decide) (hg) ?_
            refine r_ifeqT rfl (rfl) ?_
            refine r_iload_4 rfl ?_
            exact fin wh (skF T e a3) eg (sk_le T p3)
        · show Wp G 8 mt_X6_personLine 44 _ [.int u] (mh (hr h y m) y (gF g z (nI a9) dp)) _
          refine r_istore_4 rfl ?_
          refine r_aload_0 rfl ?_
          refine r_getf rfl (am_set_at) (by rfl) ?_
          refine r_push rfl ?_
          refine r_icneT rfl (nz p3) ?_
          refine r_iload_4 rfl ?_
          refine r_istore_5 rfl ?_
          refine r_aload_0 rfl ?_
          refine r_getf rfl (am_set_at) (by rfl) ?_
          refine r_push rfl ?_
          refine r_iceqF rfl (nz p3) ?_
          refine r_vret rfl ?_
          exact Or.inr ⟨z, a9, dp, by rw [eF, q1]; simp only [rB]; rw [q2]; simp only; rw [q3], p3, q9, rfl⟩
      · show Wp G 8 mt_X6_personLine 34 _ [.int u] (mh (hr h y m) y (gF g z (nI a9) dp)) _
        refine r_istore_3 rfl ?_
        refine r_aload_0 rfl ?_
        refine r_globR rfl (gA) ?_
        refine r_push rfl ?_
        refine r_push rfl ?_
        refine r_invvP_3 rfl (am_set_at) rfl rfl (by decide) (kAfterX am_set_at (nz p2)) ?_
        refine r_istore_4 rfl ?_
        refine r_aload_0 rfl ?_
        refine r_getf rfl (am_set_at) (by rfl) ?_
        refine r_push rfl ?_
        refine r_icneT rfl (nz p2) ?_
        refine r_iload_4 rfl ?_
        refine r_istore_5 rfl ?_
        refine r_aload_0 rfl ?_
        refine r_getf rfl (am_set_at) (by rfl) ?_
        refine r_push rfl ?_
        refine r_iceqF rfl (nz p2) ?_
        refine r_vret rfl ?_
        exact Or.inr ⟨z, a9, dp, by rw [eF, q1]; simp only [rB]; rw [q2], p2, q9, rfl⟩
    · show Wp G 8 mt_X6_personLine 24 _ [.int u] (mh (hr h y m) y (gF g z (nI a9) dp)) _
      refine r_istore_2 rfl ?_
      refine r_aload_0 rfl ?_
      refine r_globR rfl (gB) ?_
      refine r_push rfl ?_
      refine r_push rfl ?_
      refine r_invvP_3 rfl (am_set_at) rfl rfl (by decide) (kAfterX am_set_at (nz p1)) ?_
      refine r_istore_3 rfl ?_
      refine r_aload_0 rfl ?_
      refine r_globR rfl (gA) ?_
      refine r_push rfl ?_
      refine r_push rfl ?_
      refine r_invvP_3 rfl (am_set_at) rfl rfl (by decide) (kAfterX am_set_at (nz p1)) ?_
      refine r_istore_4 rfl ?_
      refine r_aload_0 rfl ?_
      refine r_getf rfl (am_set_at) (by rfl) ?_
      refine r_push rfl ?_
      refine r_icneT rfl (nz p1) ?_
      refine r_iload_4 rfl ?_
      refine r_istore_5 rfl ?_
      refine r_aload_0 rfl ?_
      refine r_getf rfl (am_set_at) (by rfl) ?_
      refine r_push rfl ?_
      refine r_iceqF rfl (nz p1) ?_
      refine r_vret rfl ?_
      exact Or.inr ⟨z, a9, dp, by rw [eF, q1]; rfl, p1, q9, rfl⟩
theorem kStone (S : MS G bs h y g T e F) (h9 : g 9 = -1) (h12 : g 12 = -1) (v : VR m) {a bb : Nat} (ha : a ≤ e) (hbb : bb ≤ e) : Wc G 8 m_X6_stoneLine [.ref y, .int (nI bb)] (mK (hr h y m) y g a) (mVL h y e g m (stoneF T e m bb a)) := by
  have S1 := S.row h9 m
  have e4 := v.ss.1
  have hS := v.ss.2
  have he := S.e400
  have o1 : ∀ {g'}, (mh (hr h y m) y g').1 (y + 1) = some (.inl (0, 769, .inl m)) := am_set_k am_set_at (by omega)
  have om : (hr h y m).1 (y + 1) = some (.inl (0, 769, .inl m)) := am_set_at
  have nz : ∀ {z : Nat} {a9 : Nat} {dp : Int32}, z ≤ e → gF g z (nI a9) dp 12 ≠ -1 := fun hz => by rw [gF_12]; exact nI_ne1 (by omega)
  obtain ⟨vO, gO, -⟩ := S.og.s 12 w_of (by decide)
  obtain ⟨vT, gT, -⟩ := S.og.s 13 w_to (by decide)
  obtain ⟨vY, gY, -⟩ := S.og.s 15 w_by (by decide)
  refine wc_in mt_X6_stoneLine rfl (L := [.ref y, .int (nI bb), am_un, am_un, am_un, am_un]) rfl ?_
  by_cases c6 : m 4 = 10
  · have eF : stoneF T e m bb a = .inl bb := by unfold stoneF; rw [if_pos c6]
    refine r_aload_0 rfl ?_
    refine r_getf rfl (am_set_at) (by rfl) ?_
    refine r_push rfl ?_
    refine r_iald rfl (o1) (show (4 : Int32) = nI 4 from rfl) (by first | assumption | omega) (by first | decide | omega) ?_
    refine r_push rfl ?_
    refine r_icneF rfl (c6) ?_
    refine r_aload_0 rfl ?_
    refine r_iload_1 rfl ?_
    refine r_invvV rfl rfl (am_set_at) rfl rfl (by decide) (kWrong h12) ?_
    refine r_aload_0 rfl ?_
    refine r_push rfl ?_
    refine r_push rfl ?_
    refine r_invvP_2 rfl (am_set_at) rfl rfl (by decide) (c_mFiguresX am_set_at (nz hbb)) ?_
    refine r_istore_2 rfl ?_
    refine r_aload_0 rfl ?_
    refine r_globR rfl (gO) ?_
    refine r_push rfl ?_
    refine r_aload_0 rfl ?_
    refine r_getf rfl (am_set_at) (by rfl) ?_
    refine r_push rfl ?_
    refine r_iald rfl (o1) (show (3 : Int32) = nI 3 from rfl) (by first | assumption | omega) (by first | decide | omega) ?_
    refine r_push rfl ?_
    refine r_isub rfl ?_
    refine r_invvP_3 rfl (am_set_at) rfl rfl (by decide) (kAfterX am_set_at (nz hbb)) ?_
    refine r_istore_3 rfl ?_
    refine r_aload_0 rfl ?_
    refine r_globR rfl (gT) ?_
    refine r_iload_3 rfl ?_
    refine r_invvU rfl rfl (am_set_at) rfl rfl (by decide) (kOtherX S1 om hbb ha) ?_
    refine r_istore_4 rfl ?_
    refine r_aload_0 rfl ?_
    refine r_getf rfl (am_set_at) (by rfl) ?_
    refine r_push rfl ?_
    refine r_icneT rfl (nz hbb) ?_
    refine r_iload_3 rfl ?_
    refine r_istore_5 rfl ?_
    refine r_aload_0 rfl ?_
    refine r_getf rfl (am_set_at) (by rfl) ?_
    refine r_push rfl ?_
    refine r_icneT rfl (nz hbb) ?_
    refine r_vret rfl ?_
    exact Or.inr ⟨_, skF T e a, _, eF, hbb, sk_le T ha, rfl⟩
  · have hs10 : nS m < 10 := by
      rcases Nat.lt_or_eq_of_le hS with z | z
      · exact z
      · rw [z] at e4; exact absurd e4 c6
    have eF : stoneF T e m bb a = rB (numF T e 1 40 a) fun n a => rB (afterF T e w_of 0 (m 3 - 1) a) fun who a => rB (otherF T e m w_to who a) fun whom a => rB (wornByF T e m who whom a) fun worn a => .inr (adF m who whom n worn, a) := by unfold stoneF; rw [if_neg c6]
    refine r_aload_0 rfl ?_
    refine r_getf rfl (am_set_at) (by rfl) ?_
    refine r_push rfl ?_
    refine r_iald rfl (o1) (show (4 : Int32) = nI 4 from rfl) (by first | assumption | omega) (by first | decide | omega) ?_
    refine r_push rfl ?_
    refine r_icneT rfl (c6) ?_
    refine r_aload_0 rfl ?_
    refine r_push rfl ?_
    refine r_push rfl ?_
    refine r_invvR rfl rfl am_set_at rfl rfl (by decide) (kFig S1 ha h12) ?_
    rintro R (⟨n, a1, q1, p1, rfl⟩ | ⟨z, a9, dp, u, q1, p1, q9, q3, rfl⟩)
    · show Wp G 8 mt_X6_stoneLine 23 _ [.int n] (mK (hr h y m) y g a1) _
      refine r_istore_2 rfl ?_
      refine r_aload_0 rfl ?_
      refine r_globR rfl gO ?_
      refine r_push rfl ?_
      refine r_aload_0 rfl ?_
      refine r_getf rfl am_set_at rfl ?_
      refine r_push rfl ?_
      refine r_iald rfl o1 (show (3 : Int32) = nI 3 from rfl) (by decide) (by decide) ?_
      refine r_push rfl ?_
      refine r_isub rfl ?_
      refine r_invvR rfl rfl am_set_at rfl rfl (by decide) (kAfter S1 p1 h12 (k := 12) (w := w_of) (by decide) gO) ?_
      rintro R (⟨who, a2, q2, p2, rfl⟩ | ⟨z, a9, dp, u, q2, p2, q9, q3, rfl⟩)
      · show Wp G 8 mt_X6_stoneLine 39 _ [.int who] (mK (hr h y m) y g a2) _
        refine r_istore_3 rfl ?_
        refine r_aload_0 rfl ?_
        refine r_globR rfl gT ?_
        refine r_iload_3 rfl ?_
        refine r_invvR rfl rfl am_set_at rfl rfl (by decide) (kOther S1 om p2 h12 (k := 13) (w := w_to) (by decide) gT) ?_
        rintro R (⟨whom, a3, q3, p3, rfl⟩ | ⟨z, a9, dp, u, q3, p3, q9, q4, rfl⟩)
        · show Wp G 8 mt_X6_stoneLine 47 _ [.int whom] (mK (hr h y m) y g a3) _
          have fin : ∀ (worn : Int32) (a4 : Nat), wornByF T e m who whom a3 = .inr (worn, a4) → a4 ≤ e → Wp G 8 mt_X6_stoneLine 78 [.ref y, .int (nI bb), .int n, .int who, .int whom, am_un] [.int worn] (mK (hr h y m) y g a4) (mVL h y e g m (stoneF T e m bb a)) := by
            intro worn a4 q4 p4
            have er : stoneF T e m bb a = .inr (adF m who whom n worn, a4) := by rw [eF, q1]; simp only [rB]; rw [q2]; simp only; rw [q3]; simp only; rw [q4]
            refine r_istore_5 rfl ?_
            refine r_aload_0 rfl ?_
            refine r_getf rfl (am_set_at) (by rfl) ?_
            refine r_push rfl ?_
            refine r_icneF rfl (h12) ?_
            refine r_aload_0 rfl ?_
            refine r_iload_3 rfl ?_
            refine r_iload_4 rfl ?_
            refine r_iload_2 rfl ?_
            refine r_iload_5 rfl ?_
            refine r_invvV rfl rfl (am_set_at) rfl rfl (by decide) (c_madds mmK hs10 e4 _ _ _ _) ?_
            rw [hr_row]
            refine r_vret rfl ?_
            exact Or.inl ⟨_, a4, er, p4, rfl⟩
          obtain ⟨vW, gW, hg⟩ := kHas S1 p3 14 w_worn (by decide)
          have hb3 := wb_le T p3
          cases cg : wdF T e a3 w_worn with
          | true =>
            rw [cg, if_pos rfl] at hg
            have eg : wornByF T e m who whom a3 = otherF T e m w_by whom (wbF T e a3) := by unfold wornByF; rw [if_pos cg]
            refine r_istore_4 rfl ?_
            refine r_aload_0 rfl ?_
            refine r_getf rfl (am_set_at) (by rfl) ?_
            refine r_push rfl ?_
            refine r_icneF rfl (h12) ?_
            refine r_aload_0 rfl ?_
            refine r_globR rfl (gW) ?_
            refine r_invvU rfl rfl (am_set_at) rfl rfl (by decide) (hg) ?_
            refine r_ifeqF rfl (by decide) ?_
            refine r_aload_0 rfl ?_
            refine r_globR rfl gY ?_
            refine r_iload_4 rfl ?_
            refine r_invvR rfl rfl am_set_at rfl rfl (by decide) (kOther S1 om hb3 h12 (k := 15) (w := w_by) (by decide) gY) ?_
            rintro R (⟨worn, a4, q4, p4, rfl⟩ | ⟨z, a9, dp, u, q4, p4, q9, q5, rfl⟩)
            · show Wp G 8 mt_X6_stoneLine 74 _ [.int worn] (mK (hr h y m) y g a4) _
              refine r_goto rfl ?_
              exact fin worn a4 (eg.trans q4) p4
            · show Wp G 8 mt_X6_stoneLine 74 _ [.int u] (mh (hr h y m) y (gF g z (nI a9) dp)) _
              refine r_goto rfl ?_
              refine r_istore_5 rfl ?_
              refine r_aload_0 rfl ?_
              refine r_getf rfl (am_set_at) (by rfl) ?_
              refine r_push rfl ?_
              refine r_icneT rfl (nz p4) ?_
              refine r_vret rfl ?_
              exact Or.inr ⟨z, a9, dp, by rw [eF, q1]; simp only [rB]; rw [q2]; simp only; rw [q3]; simp only; rw [eg.trans q4], p4, q9, rfl⟩
          | false =>
            rw [cg, if_neg (by decide)] at hg
            have eg : wornByF T e m who whom a3 = .inr (who, skF T e a3) := by unfold wornByF; rw [if_neg (by rw [cg]; decide)]
            refine r_istore_4 rfl ?_
            refine r_aload_0 rfl ?_
            refine r_getf rfl (am_set_at) (by rfl) ?_
            refine r_push rfl ?_
            refine r_icneF rfl (h12) ?_
            refine r_aload_0 rfl ?_
            refine r_globR rfl (gW) ?_
            refine r_invvU rfl rfl (am_set_at) rfl rfl (by decide) (hg) ?_
            refine r_ifeqT rfl (rfl) ?_
            refine r_iload_3 rfl ?_
            exact fin who (skF T e a3) eg (sk_le T p3)
        · show Wp G 8 mt_X6_stoneLine 47 _ [.int u] (mh (hr h y m) y (gF g z (nI a9) dp)) _
          refine r_istore_4 rfl ?_
          refine r_aload_0 rfl ?_
          refine r_getf rfl (am_set_at) (by rfl) ?_
          refine r_push rfl ?_
          refine r_icneT rfl (nz p3) ?_
          refine r_iload_3 rfl ?_
          refine r_istore_5 rfl ?_
          refine r_aload_0 rfl ?_
          refine r_getf rfl (am_set_at) (by rfl) ?_
          refine r_push rfl ?_
          refine r_icneT rfl (nz p3) ?_
          refine r_vret rfl ?_
          exact Or.inr ⟨z, a9, dp, by rw [eF, q1]; simp only [rB]; rw [q2]; simp only; rw [q3], p3, q9, rfl⟩
      · show Wp G 8 mt_X6_stoneLine 39 _ [.int u] (mh (hr h y m) y (gF g z (nI a9) dp)) _
        refine r_istore_3 rfl ?_
        refine r_aload_0 rfl ?_
        refine r_globR rfl (gT) ?_
        refine r_iload_3 rfl ?_
        refine r_invvU rfl rfl (am_set_at) rfl rfl (by decide) (kOtherX S1 om p2 q9) ?_
        refine r_istore_4 rfl ?_
        refine r_aload_0 rfl ?_
        refine r_getf rfl (am_set_at) (by rfl) ?_
        refine r_push rfl ?_
        refine r_icneT rfl (nz p2) ?_
        refine r_iload_3 rfl ?_
        refine r_istore_5 rfl ?_
        refine r_aload_0 rfl ?_
        refine r_getf rfl (am_set_at) (by rfl) ?_
        refine r_push rfl ?_
        refine r_icneT rfl (nz p2) ?_
        refine r_vret rfl ?_
        exact Or.inr ⟨z, skF T e a9, dp, by rw [eF, q1]; simp only [rB]; rw [q2], p2, sk_le T q9, rfl⟩
    · show Wp G 8 mt_X6_stoneLine 23 _ [.int u] (mh (hr h y m) y (gF g z (nI a9) dp)) _
      refine r_istore_2 rfl ?_
      refine r_aload_0 rfl ?_
      refine r_globR rfl (gO) ?_
      refine r_push rfl ?_
      refine r_aload_0 rfl ?_
      refine r_getf rfl (am_set_at) (by rfl) ?_
      refine r_push rfl ?_
      refine r_iald rfl (o1) (show (3 : Int32) = nI 3 from rfl) (by first | assumption | omega) (by first | decide | omega) ?_
      refine r_push rfl ?_
      refine r_isub rfl ?_
      refine r_invvP_3 rfl (am_set_at) rfl rfl (by decide) (kAfterX am_set_at (nz p1)) ?_
      refine r_istore_3 rfl ?_
      refine r_aload_0 rfl ?_
      refine r_globR rfl (gT) ?_
      refine r_iload_3 rfl ?_
      refine r_invvU rfl rfl (am_set_at) rfl rfl (by decide) (kOtherX S1 om p1 q9) ?_
      refine r_istore_4 rfl ?_
      refine r_aload_0 rfl ?_
      refine r_getf rfl (am_set_at) (by rfl) ?_
      refine r_push rfl ?_
      refine r_icneT rfl (nz p1) ?_
      refine r_iload_3 rfl ?_
      refine r_istore_5 rfl ?_
      refine r_aload_0 rfl ?_
      refine r_getf rfl (am_set_at) (by rfl) ?_
      refine r_push rfl ?_
      refine r_icneT rfl (nz p1) ?_
      refine r_vret rfl ?_
      exact Or.inr ⟨z, skF T e a9, dp, by rw [eF, q1]; rfl, p1, sk_le T q9, rfl⟩
end
