/-! THE VALLEY, THE LAW: the system -/
set_option maxRecDepth 100000
theorem VR.txt {m : Nat → Int32} (v : VR m) {x : Int32} (h : isB x 13) : VR (upd m 0 x) := by
  have e : ∀ k, k ≠ 0 → upd m 0 x k = m k := fun k hk => upd_ne hk
  have e3 := e 3 (by omega); have e4 := e 4 (by omega); have e7 := e 7 (by omega)
  have eP : nP (upd m 0 x) = nP m := by unfold nP; rw [e3]
  have eS : nS (upd m 0 x) = nS m := by unfold nS; rw [e4]
  have eL : nL (upd m 0 x) = nL m := by unfold nL; rw [e7]
  obtain ⟨⟨v1, v2, v3⟩, ⟨v4, v5⟩, v6, v7, v8⟩ := v
  refine ⟨⟨by rw [e3, eP]; exact v1, by rw [e4, eS]; exact v2, by rw [e7, eL]; exact v3⟩, ⟨by rw [upd_eq]; exact h, by rw [e 1 (by omega)]; exact v5⟩, fun q hq => ?_, fun p hp => ?_, fun s hs => ?_⟩
  · rw [e _ (by omega), e _ (by omega)]; exact v6 q hq
  · rw [eP] at hp
    rw [e _ (by omega), e _ (by omega), e _ (by omega)]; exact v7 p hp
  · rw [eS] at hs
    rw [eP, e _ (by omega), e _ (by omega), e _ (by omega), e _ (by omega), e _ (by omega), e _ (by omega)]; exact v8 s hs
section
variable {T f : Nat → Int32} {e len x bs n0 : Nat} {at_ bg ft dp : Int32} {hi : Bool} {h h0 : am_H} {G : am_G} {m b mt bt : Nat → Int32} {l lt : Value} {S : Nat → Prop} {ws : List (Nat × (Nat → Int32))}
/-- the valley's text could not be taken -/
def VX (T f : Nat → Int32) (x len : Nat) (m : Nat → Int32) (h : am_H) : Nat → am_H → Prop := fun c h' => ∃ h2 z9, h' = am_skip h2 6 ∧ HC (VP x) (len + 9) h h2 ∧ (∃ at_ bg dp, RS h2 (x + 46) f 0 len at_ bg z9 dp) ∧ (∃ mt bt lt, WA h2 (x + 16) mt bt lt) ∧ ((∃ z, valF T len m = .inl z ∧ c = 18 ∧ z9 = nI z) ∨ (∃ m', valF T len m = .inr (m', len) ∧ m 0 = 12 ∧ c = 19 ∧ z9 = -1))
theorem c_xValley (q : HS G bs x (x + 1) S hi h m b l) (gx : bs ≤ x) (sg : SG bs x S h) (W : WB G bs x S h l m ws) (lb : LB m) (qd : WA h (x + 16) mt bt lt) (r : RS h (x + 46) f len n0 at_ bg ft dp) (t : TX T f len) : Et G 16 m_X1_valley [.ref x] h (fun v h' => ∃ m' b', valF T len m = .inr (m', len) ∧ m 0 ≠ 12 ∧ v = .int (m 0 + 1) ∧ RO m m' ∧ HS G bs x (x + 1) S hi h' (upd m' 0 (m 0 + 1)) b' l ∧ WB G bs x S h' l (upd m' 0 (m 0 + 1)) [] ∧ (∃ at_ bg dp, RS h' (x + 46) f 0 len at_ bg (-1) dp) ∧ (∃ mt bt lt, WA h' (x + 16) mt bt lt) ∧ HF (fun a => VP x a ∨ RP1 x S a) (10 * (len + 9)) (1600 * (len + 9)) h h') (VX T f x len m h) := by
  have he := t.1
  have Q := q
  have W0 := W
  obtain ⟨q1, v, yb, q4, q5, q6, o, s0, q8⟩ := q
  have no : ∀ z, isR (x + 46) z → z < x + 16 ∨ x + 16 + 15 ≤ z := fun z y => by unfold isR at y; omega
  have up : ∀ {c s : Nat} {h1 h2 : am_H}, HF (isR (x + 46)) c s h1 h2 → HF (VP x) c s h1 h2 := fun f => f.mono (fun z y => Or.inl y) (Nat.le_refl _) (Nat.le_refl _)
  have hv : ∀ z, VP x z → bs ≤ z ∧ ¬ InW (x + 1) z ∧ z ≠ x ∧ z ≠ x + 48 ∧ ¬ S z := fun z hz => by
    have sgz := sg z
    unfold VP isR InW at hz
    unfold InW
    exact ⟨by omega, by omega, by omega, by omega, fun y => by have := sgz y; omega⟩
  have wv : ∀ z, VP x z → bs ≤ z ∧ z ≠ x + 64 ∧ z < x + 98 := fun z hz => by unfold VP isR InW at hz; omega
  refine wc_in mt_X1_valley rfl (L := [.ref x, am_un]) rfl ?_
  refine r_aload_0 rfl ?_
  refine r_getf rfl (o) (by rfl) ?_
  refine r_invvF rfl rfl (r.1) rfl rfl (by decide) (c_begins q5 r) ?_
  rintro h1 ⟨r1, F1⟩
  have K1 := Q.kp (up F1) hv
  have qd1 := qd.keep F1 no
  obtain ⟨k1, -, -, k4, k5, k6, k7, -⟩ := id K1
  refine r_aload_0 rfl ?_
  refine r_getf rfl (k7) (by rfl) ?_
  refine r_aload_0 rfl ?_
  refine r_getf rfl (k7) (by rfl) ?_
  refine r_invvE rfl rfl (wa_o qd1) rfl rfl (by decide) (c_likens qd1 k1 k5 (by omega) k4.v) ?_
  rintro v2 h2 ⟨rfl, wa2, F2⟩
  refine r_popR rfl ?_
  skip
  have F12 : HF (VP x) 0 0 h h2 := (HF.trans (up F1) (F2.mono (fun z y => Or.inr y) (Nat.le_refl _) (Nat.le_refl _))).mono (fun _ z => z) (Nat.le_refl _) (Nat.le_refl _)
  have K2 := Q.kp F12 hv
  obtain ⟨k1', -, -, k4', k5', k6', k7', -⟩ := id K2
  have r2 := r1.keep F2 (fun z => by unfold InW at z; omega) (fun z => by unfold InW at z; omega)
  refine r_aload_0 rfl ?_
  refine r_aload_0 rfl ?_
  refine r_getf rfl k7' rfl ?_
  refine r_k rfl (am_invv_ok rfl k7' rfl rfl) (by decide) (c_valText k5' k6' gx k7' t r2 wa2 v yb lb) (fun R p => ?_)
  rcases p with ⟨h3, rfl, m', b', ev, wa3, ro, yb3, ⟨at3, bg3, r3⟩, F3⟩ | ⟨c, h3, rfl, z, ez, rfl, ⟨at3, dp3, r3⟩, ⟨mt3, bt3, lt3, wa3⟩, F3⟩
  · show Wp G 16 mt_X1_valley 27 _ _ h3 _
    have F13 : HC (VP x) (len + 9) h h3 := (HF.trans F12 F3).mono (fun _ z => z) (by omega) (by omega)
    have K3 := Q.kp F13 hv
    obtain ⟨k1'', -, -, k4'', k5'', k6'', k7'', -⟩ := id K3
    refine r_aload_0 rfl ?_
    refine r_getf rfl k7'' rfl ?_
    refine r_push rfl ?_
    refine r_puti rfl r3.1 rfl ?_
    have r4 : RS (am_set h3 (x + 46) (.inr (2, robj (x + 46) 0 len at3 bg3 (-1) 0))) (x + 46) f 0 len at3 bg3 (-1) 0 := ⟨am_set_at, am_set_k r3.2 (by omega)⟩
    have F4 : HF (isR (x + 46)) 0 0 h3 (am_set h3 (x + 46) (.inr (2, robj (x + 46) 0 len at3 bg3 (-1) 0))) := (HF.set k5'' r3.1).mono (fun a z => z) (Nat.le_refl _) (Nat.le_refl _)
    show Wp G 16 mt_X1_valley 35 _ _ (am_set h3 (x + 46) (.inr (2, robj (x + 46) 0 len at3 bg3 (-1) 0))) _
    generalize am_set h3 (x + 46) (.inr (2, robj (x + 46) 0 len at3 bg3 (-1) 0)) = h4 at *
    have F14 : HC (VP x) (len + 9) h h4 := (HF.trans F13 (up F4)).mono (fun _ z => z) (by omega) (by omega)
    have K4 := Q.kp F14 hv
    have wa4 := wa3.keep F4 no
    obtain ⟨j1, -, -, j4, j5, j6, j7, js, j8⟩ := id K4
    refine r_goto rfl ?_
    refine r_aload_0 rfl ?_
    refine r_getf rfl j7 rfl ?_
    refine r_getf rfl (wa_o j1) rfl ?_
    refine r_push rfl ?_
    by_cases c12 : m 0 = 12
    · refine r_icneF rfl c12 ?_
      refine r_thr rfl rfl rfl ?_
      exact Or.inr ⟨_, _, rfl, h4, -1, rfl, F14, ⟨_, _, _, r4⟩, ⟨_, _, _, wa4⟩, Or.inr ⟨m', ev, c12, rfl, rfl⟩⟩
    · have k0 : isB (m 0) 13 := v.2.1.1
      have k0' : isB (m 0 + 1) 13 := by
        obtain ⟨i, hi, ei⟩ := k0
        refine ⟨i + 1, ?_, by rw [ei, nI_1]⟩
        have : i ≠ 12 := fun z => c12 (by rw [ei, z]; rfl)
        omega
      refine r_icneT rfl c12 ?_
      have m0 : m' 0 = m 0 := ro.2.2.1
      have wa5 := wa4.ob (k := 0) (v := m 0 + 1) (by decide)
      have F5 := wa4.hf j5 (i := 0) (x := .inr (1, wobj (x + 16) (upd m' 0 (m 0 + 1)) l)) (by decide)
      refine r_aload_0 rfl ?_
      refine r_getf rfl j7 rfl ?_
      refine r_dupR rfl ?_
      refine r_getf rfl (wa_o wa4) rfl ?_
      rw [m0]
      refine r_push rfl ?_
      refine r_iadd rfl ?_
      refine r_puti rfl (wa_o wa4) rfl ?_
      rw [wo_0]
      show Wp G 16 mt_X1_valley 76 _ _ (am_set h4 (x + 16 + 0) (.inr (1, wobj (x + 16) (upd m' 0 (m 0 + 1)) l))) _
      have wa5 : WA (am_set h4 (x + 16 + 0) (.inr (1, wobj (x + 16) (upd m' 0 (m 0 + 1)) l))) (x + 16) (upd m' 0 (m 0 + 1)) b' l := wa5
      generalize am_set h4 (x + 16 + 0) (.inr (1, wobj (x + 16) (upd m' 0 (m 0 + 1)) l)) = h5 at *
      have F15 : HC (VP x) (len + 9) h h5 := (HF.trans F14 (F5.mono (fun z y => Or.inr y) (Nat.le_refl _) (Nat.le_refl _))).mono (fun _ z => z) (by omega) (by omega)
      have K5 := Q.kp F15 hv
      obtain ⟨i1, -, -, i4, i5, i6, i7, is, i8⟩ := id K5
      have r5 := r4.keep F5 (fun z => by unfold InW at z; omega) (fun z => by unfold InW at z; omega)
      refine r_aload_0 rfl ?_
      refine r_getf rfl i7 rfl ?_
      refine r_aload_0 rfl ?_
      refine r_getf rfl i7 rfl ?_
      refine r_invvE rfl rfl (wa_o i1) rfl rfl (by decide) (c_likens i1 wa5 i5 (by omega) q4.v) ?_
      rintro v6 h6 ⟨rfl, wa6, F6⟩
      refine r_popR rfl ?_
      have W5 := W0.kp F15 wv
      have W6 := W5.kp F6 (fun z hz => by unfold InW at hz; omega)
      obtain ⟨arr, e1, e2, e3, e4, e5⟩ := id W6
      obtain ⟨mc, tt, cap, ff, oA, oR, -⟩ := id e1
      have lenW : (ws.map Prod.fst).length = ws.length := List.length_map _
      have o6 := F6.k i7 (by unfold InW; omega)
      refine r_aload_0 rfl ?_
      refine r_getf rfl o6 rfl ?_
      refine r_invvF rfl rfl oA rfl rfl (by decide) (c_alClear e1 F6.w (by omega)) ?_
      rintro h7 ⟨A7, F7⟩
      have hF7 : ∀ z, ALP bs (x + 64) arr z → RP x S z := fun z hz => by
        rcases hz with hz | ⟨hz, hy⟩
        · exact Or.inl hz
        · rcases e3 with e3 | e3
          · exact Or.inr ⟨by omega, by rw [hz]; exact e3.2⟩
          · omega
      have nR : ∀ z, RP x S z → z = x + 64 ∨ x + 98 ≤ z := fun z hz => by rcases hz with hz | hz; exact Or.inl hz; exact Or.inr hz.1
      have Fall : HF (fun a => VP x a ∨ RP1 x S a) (10 * (len + 9)) (1600 * (len + 9)) h h7 := (HF.trans (HF.trans (F15.mono (fun z y => Or.inl y) (Nat.le_refl _) (Nat.le_refl _)) (F6.mono (fun z y => Or.inr (Or.inl (Or.inl y))) (Nat.le_refl _) (Nat.le_refl _))) (F7.mono (fun z y => Or.inr (Or.inr (hF7 z y))) (Nat.le_refl _) (Nat.le_refl _))).mono (fun _ z => z) (by omega) (by omega)
      have nS : ∀ z, S z → ¬ (VP x z ∨ RP1 x S z) := fun z sz hz => by
        rcases hz with hz | hz | hz | hz
        · exact (hv z hz).2.2.2.2 sz
        · have := (sg z sz).1; unfold HP InW at hz; omega
        · have := (sg z sz).1; omega
        · exact hz.2 sz
      have wa7 := wa6.keep F7 (fun z hz => by have := nR z (hF7 z hz); omega)
      have o7 := F7.k o6 (fun hz => by have := nR _ (hF7 _ hz); omega)
      have v7 : VR (upd m' 0 (m 0 + 1)) := ro.1.txt k0'
      refine r_aload_0 rfl ?_
      refine r_getf rfl o7 rfl ?_
      refine r_getf rfl (wa_o wa7) rfl ?_
      refine r_iret rfl ?_
      refine Or.inl ⟨_, _, rfl, m', b', ev, c12, rfl, ro, ⟨wa7, v7, yb3.u ro.1.ss.2 (by omega), q4.keep (Fall.sk nS) ((upd_ne (by omega)).trans ro.2.2.2.1) ((upd_ne (by omega)).trans ro.2.2.2.2.1) (fun k hk => (upd_ne (by omega)).trans (ro.2.2.2.2.2 k (by omega))), F7.w, q6.keep Fall (fun z hz => ?_), o7, is, F7.k (F6.k i8 (by unfold InW; omega)) (fun hz => by have := nR _ (hF7 _ hz); omega)⟩, ⟨arr, A7, by decide, e3, fun p hp => absurd hp (by simp), List.Pairwise.nil⟩, ⟨_, _, _, (r5.keep F6 (fun z => by unfold InW at z; omega) (fun z => by unfold InW at z; omega)).keep F7 (fun hz => by have := nR _ (hF7 _ hz); omega) (fun hz => by have := nR _ (hF7 _ hz); omega)⟩, ⟨_, _, _, (wa5.keep F6 (fun z hz => by unfold InW at hz; omega)).keep F7 (fun z hz => by have := nR _ (hF7 _ hz); omega)⟩, Fall⟩
      rcases hz with hz | hz | hz
      · exact (hv z hz).1
      · unfold HP InW at hz; omega
      · have := nR z hz; omega
  · show Wp G 16 mt_X1_valley 39 [.ref x, am_un] [] h3 _
    have F13 : HC (VP x) (len + 9) h h3 := (HF.trans F12 F3).mono (fun _ z => z) (by omega) (by omega)
    have K3 := Q.kp F13 hv
    obtain ⟨k1'', -, -, k4'', k5'', k6'', k7'', -⟩ := id K3
    refine r_aload_0 rfl ?_
    refine r_k rfl (am_invv_ok rfl k7'' rfl rfl) (by decide) (c_fails k5'' k7'' r3) (fun R p => ?_)
    obtain ⟨h4, r4, F4, rfl⟩ := p
    exact Or.inr ⟨_, _, rfl, h4, _, rfl, (HF.trans F13 (up F4)).mono (fun _ z => z) (by omega) (by omega), ⟨_, _, _, r4⟩, ⟨_, _, _, wa3.keep F4 no⟩, Or.inl ⟨z, ez, rfl, rfl⟩⟩
end
