/-! CALLS ON BOTH SIDES: the law and the valley -/
set_option maxRecDepth 100000
section
variable {G : am_G} {bs x dx dy kX kY : Nat} {h : am_H} {a a' : AA} {AsX AsY : List Value}
theorem LO.up {S S' : Nat → Prop} {h1 : am_H} {m : Nat → Int32} {l : Value} (q : LO G bs h S m l) (k : SK S h h1) (hs : ∀ z, S z → S' z) : LO G bs h1 S' m l := by
  rcases q with q | ⟨q1, p, q2, q3⟩
  · exact Or.inl q
  · exact Or.inr ⟨q1, p, q2, q3.keep k hs⟩
theorem AR.nil {ac : Nat → Int32} : AR ac [] := fun i hi => absurd hi (Nat.not_lt_zero _)
/-- a text has been read: the system -/
theorem xs_new {S S' P : Nat → Prop} {m' b' : Nat → Int32} {l' : Value} {h1 : am_H} {T' : Nat → Int32} {ft' : Int32} {ws' : List (Nat × (Nat → Int32))} {c s : Nat} (gx : GX bs x S h a) (X : OX G bs x S a.hi h a.mi a.T a.len a.ft) (K' : HS G bs x (x + 1) S' a.hi h1 m' b' l') (W' : WB G bs x S' h1 l' m' ws') (sg' : SG bs x S' h1) (rk : RK m') (r : RX x h1 T' 0 ft') (wx : WX h1 (x + 16)) (hS : ∀ z, S z → S' z) (F : HF P c s h h1) (hp : ∀ k, P k → VP x k ∨ RP1 x S k) (k1 : s ≤ 5600 * a.len + 112006) (k2 : c ≤ 35 * a.len + 999) : XS G bs x h a h1 (m', a.mi, a.hi, ws', T', 0, ft') := by
  obtain ⟨gb, sg, hn, hl, rk0⟩ := gx
  have z := F.z
  have hp2 : ∀ k, P k → ((x + 1 ≤ k ∧ k < x + 31) ∨ k = x + 46 ∨ k = x + 48 ∨ k = x + 64 ∨ x + 98 ≤ k) ∧ ¬ S k := fun k z => by
    rcases hp k z with z | z | z | z
    · exact ⟨by unfold VP isR InW at z; omega, fun sk => by have := (sg k sk).1; unfold VP isR InW at z; omega⟩
    · exact ⟨by unfold HP InW at z; omega, fun sk => by have := (sg k sk).1; unfold HP InW at z; omega⟩
    · exact ⟨by omega, fun sk => by have := (sg k sk).1; omega⟩
    · exact ⟨by omega, z.2⟩
  obtain ⟨x1, x2, x3, x4, x5, x6, ⟨f7, x7⟩, x8⟩ := X
  refine ⟨S', c, s, ⟨gb, sg', by omega, Nat.zero_le _, rk⟩, ⟨b', l', K', W', fun e => ?_, wx, x3.keep F (fun k z => by have := (hp2 k z).1; omega), x4.keep F (fun k z => by have := (hp2 k z).1; omega), x5.keep F (fun k z => by have := (hp2 k z).1; omega), r, ⟨f7, F.k x7 (fun z => by have := (hp2 _ z).1; omega)⟩, x8.keep F (fun k z => by have := (hp2 k z).1; omega)⟩, F.mono (fun k z => by have := (hp2 k z).1; unfold XF; omega) (Nat.le_refl _) (Nat.le_refl _), (by show s + 5600 * 0 ≤ _; omega), (by show c + 35 * 0 ≤ _; omega)⟩
  obtain ⟨bi, li, i1, i2, i3, i4, i5⟩ := x1 e
  exact ⟨bi, li, i1.keep F (fun k z => by have := (hp2 k z).1; omega), i2, i3, i4.up (F.sk (fun k sk z => (hp2 k z).2 sk)) hS, i5⟩
/-- a text has been refused: the system -/
theorem xs_bad {S P : Nat → Prop} {b : Nat → Int32} {l : Value} {h2 : am_H} {T' : Nat → Int32} {ft' : Int32} {c s : Nat} (gx : GX bs x S h a) (K : HS G bs x (x + 1) S a.hi h a.m b l) (W : WB G bs x S h l a.m a.ws) (X : OX G bs x S a.hi h a.mi a.T a.len a.ft) (F : HF P c s h h2) (hp : ∀ k, P k → VP x k) (r : RX x h2 T' 0 ft') (wx : WX h2 (x + 16)) (k1 : s ≤ 5600 * a.len + 112000) (k2 : c ≤ 35 * a.len + 998) : XS G bs x h a (am_skip h2 6) (a.m, a.mi, a.hi, a.ws, T', 0, ft') := by
  have F' : HF P (c + 1) (s + 6) h (am_skip h2 6) := (HF.trans F ((HF.skip F.w).mono (fun k z => z.elim) (Nat.le_refl _) (Nat.le_refl _))).mono (fun _ z => z) (Nat.le_refl _) (Nat.le_refl _)
  have F0 : HF (fun _ => False) 1 6 h2 (am_skip h2 6) := HF.skip F.w
  have z := F'.z
  have gx0 := gx
  obtain ⟨gb, sg, hn, hl, rk0⟩ := gx
  have nS : ∀ k, P k → ¬ S k := fun k z sk => by have := (sg k sk).1; have := hp k z; unfold VP isR InW at this; omega
  have hv : ∀ k, P k → (x + 16 ≤ k ∧ k < x + 31) ∨ k = x + 46 := fun k z => by have := hp k z; unfold VP isR InW at this; omega
  exact xs_new gx0 X (K.kp F' (fun k z => ⟨by have := hv k z; omega, by have := hv k z; unfold InW; omega, by have := hv k z; omega, by have := hv k z; omega, nS k z⟩)) (W.kp F' (fun k z => by have := hv k z; omega)) (fun k sk => by have := sg k sk; omega) rk0 (r.keep F0 (fun k z => z.elim)) (wx.keep F0 (fun k z => z.elim)) (fun _ z => z) F' (fun k z => Or.inl (hp k z)) (by omega) (by omega)
theorem lawR_rk {m T : Nat → Int32} {len : Nat} {ls : List Ln} {a' : Nat} (v : VR m) (rk : RK m) (hl : len ≤ 400) (h12 : ls.length ≤ 12) (h : lawF T len = .inr (ls, a')) : RK (lawR m T len ls.length) := by
  obtain ⟨-, q2, q3⟩ := lawR_lw (m := m) hl h12 h
  refine ⟨q2, q3, (lawR_ok v rk.2.2.1 h12).2.1, fun k hk => ?_⟩
  unfold lawR
  rw [if_neg (by omega), if_neg (by omega), if_neg (by omega)]
  exact rk.2.2.2 k hk
theorem o_law (st : STA G bs x h a) : OP2 G bs x h a 38 m_X0_law [.ref x, .ref (x + 97)] 33 m_X6_law [.ref (x + 87)] := by
  have st0 := st
  obtain ⟨S, g, lf, gx, ⟨b, l, K, W, X⟩, sy, o97⟩ := st
  obtain ⟨f, n, at_, bg, dp, rr, tf⟩ := X.2.2.2.2.2.1
  have hl := gx.2.2.2.1
  have rk := gx.2.2.2.2
  obtain ⟨q1, v, yb, q4, q5, q6, o, q8⟩ := id K
  have hX := c_xLaw K gx.1 gx.2.1 gx.2.2.1 W rk.2.2.1 rr ⟨hl, tf⟩
  have hz : ∀ k, k = x + 46 → VP x k := fun k z => Or.inl z
  rcases hlw : lawF a.T a.len with z | ⟨ls, e⟩
  · refine op2 (a' := (a.m, a.mi, a.hi, a.ws, a.T, 0, nI z)) (r := (1, 0)) st0 (h_law hX (by decide) o (fun v1 h1 p => ?_) (fun c h1 p => p.1)) (fun n1 h1 p => ?_) (fun c h1 p => ?_) (by simp) ?_
    · obtain ⟨ls, p, S', p1, -⟩ := p
      cases hlw.symm.trans p1
    · obtain ⟨ls, p, S', p1, -⟩ := p
      cases hlw.symm.trans p1
    · obtain ⟨-, z', h2, p1, rfl, ⟨at_, bg, dp, r2⟩, F⟩ := p
      cases hlw.symm.trans p1
      exact ⟨by decide, rfl, xs_bad gx K W X F hz ⟨f, a.len, at_, bg, dp, r2, tf⟩ (X.2.1.keep F (fun k z => by have : k = x + 46 := z; omega)) (by omega) (by omega)⟩
    · intro h2 S g gx sx sy
      have sy0 := sy
      obtain ⟨mm, qk, as, qac, tp, ⟨fa, qf⟩, f7, f8, f9, e3, e6, e8, e12, ez⟩ := sy
      refine ev_mono (c_yLaw mm sx.sys.2 (by have := gx.1; omega) tp qf ez e8 hl) ?_
      rintro u h3 (⟨ls, g', p1, -⟩ | ⟨z', g', p1, -, rfl, lg, rfl⟩)
      · cases hlw.symm.trans p1
      · cases hlw.symm.trans p1
        obtain ⟨s1, s2⟩ := sy_lg (m' := a.m) (ws' := a.ws) sy0 sx.sys.1 h2 (Or.inl rfl) (fun _ z => z) (e6 ▸ lg)
        rw [show hr h2 (x + 87) a.m = h2 from am_set_id mm.2] at s1 s2
        exact ⟨⟨0, rfl, fun z => absurd z (by decide)⟩, ⟨g', s1, lg.1⟩, s2⟩
  · refine op2 (a' := (lawR a.m a.T a.len ls.length, a.mi, a.hi, [], a.T, 0, -1)) (r := (0, nI ls.length)) st0 (h_law hX (by decide) o (fun v1 h1 p => ?_) (fun c h1 p => p.1)) (fun n1 h1 p => ?_) (fun c h1 p => ?_) (by simp) ?_
    · obtain ⟨ls, p, S', -, -, rfl, -, -, -, -, -, -, F⟩ := p
      exact ⟨_, _, rfl, F.k o97 (fun z => by
        rcases z with z | z
        · have : x + 97 = x + 46 := z; omega
        · exact rp1_97 gx z)⟩
    · obtain ⟨ls', p, S', p1, h12, e2, hS, sg', -, K', W', ⟨at_, bg, dp, r2⟩, F⟩ := p
      cases hlw.symm.trans p1
      cases e2
      refine ⟨rfl, rfl, xs_new gx X K' W' sg' (lawR_rk v rk hl h12 hlw) ⟨f, _, at_, bg, dp, r2, tf⟩ (X.2.1.keep F (fun k z => ?_)) hS F (fun k z => ?_) (by omega) (by omega)⟩
      · rcases z with z | z | z | z
        · have : k = x + 46 := z; omega
        · unfold HP InW at z; omega
        · omega
        · omega
      · rcases z with z | z
        · exact Or.inl (hz _ z)
        · exact Or.inr z
    · obtain ⟨-, z', h2, p1, -⟩ := p
      cases hlw.symm.trans p1
    · intro h2 S g gx sx sy
      have sy0 := sy
      obtain ⟨mm, qk, as, qac, tp, ⟨fa, qf⟩, f7, f8, f9, e3, e6, e8, e12, ez⟩ := sy
      refine ev_mono (c_yLaw mm sx.sys.2 (by have := gx.1; omega) tp qf ez e8 hl) ?_
      rintro u h3 (⟨ls', g', p1, -, rfl, lg, rfl⟩ | ⟨z', g', p1, -⟩)
      · cases hlw.symm.trans p1
        obtain ⟨s1, s2⟩ := sy_lg (m' := lawR a.m a.T a.len ls.length) (ws' := []) sy0 sx.sys.1 h2 (Or.inl rfl) (fun _ _ => AR.nil) lg
        exact ⟨⟨_, rfl, fun _ => rfl⟩, ⟨g', s1, lg.1⟩, s2⟩
      · cases hlw.symm.trans p1
theorem RK.txt {m : Nat → Int32} (q : RK m) {v : Int32} : RK (upd m 0 v) := by
  obtain ⟨q1, q2, q3, q4⟩ := q
  have ht : ∀ k, 369 ≤ k → upd m 0 v k = m k := fun k hk => upd_ne (by omega)
  refine ⟨q1.ag (upd_ne (by decide)) (upd_ne (by decide)) ht, fun z => ?_, q3.same (upd_ne (by decide)) (upd_ne (by decide)) (fun k hk => upd_ne (by omega)), fun k hk => (ht k (by omega)).trans (q4 k hk)⟩
  rw [upd_ne (by decide), lwF_congr (upd_ne (by decide)) ht]
  rw [upd_ne (by decide)] at z
  exact q2 z
theorem RK.ro {m m' : Nat → Int32} (q : RK m) (ro : RO m m') : RK m' := by
  obtain ⟨q1, q2, q3, q4⟩ := q
  obtain ⟨-, lb, -, h1, h2, ht⟩ := ro
  have ht' : ∀ k, 369 ≤ k → m' k = m k := fun k hk => ht k (by omega)
  exact ⟨q1.ag h1 h2 ht', fun z => by rw [h1, lwF_congr h2 ht']; exact q2 (by rw [← h1]; exact z), lb, fun k hk => (ht k (by omega)).trans (q4 k hk)⟩
theorem o_valley (st : STA G bs x h a) : OP2 G bs x h a 17 m_X0_valley [.ref x, .ref (x + 97)] 33 m_X6_valley [.ref (x + 87)] := by
  have st0 := st
  obtain ⟨S, g, lf, gx, ⟨b, l, K, W, X⟩, sy, o97⟩ := st
  obtain ⟨f, n, at_, bg, dp, rr, tf⟩ := X.2.2.2.2.2.1
  obtain ⟨mt, bt, lt, qd⟩ := X.2.1
  have hl := gx.2.2.2.1
  have rk := gx.2.2.2.2
  obtain ⟨q1, v, yb, q4, q5, q6, o, q8⟩ := id K
  have hX := c_xValley K gx.1 gx.2.1 W rk.2.2.1 qd rr ⟨hl, tf⟩
  have hok : ∀ (v1 : Value) (h1 : am_H), (∃ m' b', valF a.T a.len a.m = .inr (m', a.len) ∧ a.m 0 ≠ 12 ∧ v1 = .int (a.m 0 + 1) ∧ RO a.m m' ∧ HS G bs x (x + 1) S a.hi h1 (upd m' 0 (a.m 0 + 1)) b' l ∧ WB G bs x S h1 l (upd m' 0 (a.m 0 + 1)) [] ∧ (∃ at_ bg dp, RS h1 (x + 46) f 0 a.len at_ bg (-1) dp) ∧ (∃ mt bt lt, WA h1 (x + 16) mt bt lt) ∧ HF (fun k => VP x k ∨ RP1 x S k) (10 * (a.len + 9)) (1600 * (a.len + 9)) h h1) → ∃ n lf, v1 = .int n ∧ h1.1 (x + 97) = some (lcell lf) := fun v1 h1 p => by
    obtain ⟨m', b', -, -, rfl, -, -, -, -, -, F⟩ := p
    exact ⟨_, _, rfl, F.k o97 (fun z => by
        rcases z with z | z
        · unfold VP isR InW at z; omega
        · exact rp1_97 gx z)⟩
  have hx : ∀ c h1, VX a.T f x a.len a.m h c h1 → c = 18 ∨ c = 19 := fun c h1 p => by
    obtain ⟨h2, z9, -, -, -, -, p⟩ := p
    rcases p with ⟨z, -, e, -⟩ | ⟨m', -, -, e, -⟩
    · exact Or.inl e
    · exact Or.inr e
  have hX0 := h_valley (d := 17) hX (by decide) o hok hx
  rcases hlw : valF a.T a.len a.m with z | ⟨m', e⟩
  · refine op2 (a' := (a.m, a.mi, a.hi, a.ws, a.T, 0, nI z)) (r := (1, 0)) st0 hX0 (fun n1 h1 p => ?_) (fun c h1 p => ?_) (by simp) ?_
    · obtain ⟨m', b', p1, -⟩ := p
      cases hlw.symm.trans p1
    · obtain ⟨h2, z9, rfl, F, ⟨at_, bg, dp, r2⟩, wx, (⟨z', p1, e1, rfl⟩ | ⟨m', p1, -⟩)⟩ := p
      · cases hlw.symm.trans p1
        subst e1
        exact ⟨by decide, rfl, xs_bad gx K W X F (fun _ z => z) ⟨f, _, at_, bg, dp, r2, tf⟩ wx (by omega) (by omega)⟩
      · cases hlw.symm.trans p1
    · intro h2 S g gx sx sy
      have sy0 := sy
      obtain ⟨mm, qk, ⟨ad, qa⟩, qac, tp, ⟨fa, qf⟩, f7, f8, f9, e3, e6, e8, e12, ez⟩ := sy
      refine ev_mono (c_yValley mm v rk.2.2.1 sx.sys.2 (by have := gx.1; omega) tp qf qa ez e8 hl) ?_
      rintro u h3 (⟨m', g', p1, -⟩ | ⟨z', g', p1, -, rfl, lg, rfl⟩ | ⟨m', g', p1, -⟩)
      · cases hlw.symm.trans p1
      · cases hlw.symm.trans p1
        obtain ⟨s1, s2⟩ := sy_lg (m' := a.m) (ws' := a.ws) sy0 sx.sys.1 _ (Or.inr ⟨_, rfl⟩) (fun _ z => z) (e6 ▸ lg)
        exact ⟨⟨0, rfl, fun z => absurd z (by decide)⟩, ⟨g', s1, lg.1⟩, s2⟩
      · cases hlw.symm.trans p1
  · by_cases c12 : a.m 0 = 12
    · refine op2 (a' := (a.m, a.mi, a.hi, a.ws, a.T, 0, -1)) (r := (2, 0)) st0 hX0 (fun n1 h1 p => ?_) (fun c h1 p => ?_) (by simp) ?_
      · obtain ⟨m', b', -, p1, -⟩ := p
        exact absurd c12 p1
      · obtain ⟨h2, z9, rfl, F, ⟨at_, bg, dp, r2⟩, wx, (⟨z', p1, -⟩ | ⟨m', p1, -, e1, rfl⟩)⟩ := p
        · cases hlw.symm.trans p1
        · subst e1
          exact ⟨by decide, rfl, xs_bad gx K W X F (fun _ z => z) ⟨f, _, at_, bg, dp, r2, tf⟩ wx (by omega) (by omega)⟩
      · intro h2 S g gx sx sy
        have sy0 := sy
        obtain ⟨mm, qk, ⟨ad, qa⟩, qac, tp, ⟨fa, qf⟩, f7, f8, f9, e3, e6, e8, e12, ez⟩ := sy
        refine ev_mono (c_yValley mm v rk.2.2.1 sx.sys.2 (by have := gx.1; omega) tp qf qa ez e8 hl) ?_
        rintro u h3 (⟨m', g', p1, -, p2, -⟩ | ⟨z', g', p1, -⟩ | ⟨m', g', p1, -, rfl, lg, rfl⟩)
        · exact absurd c12 p2
        · cases hlw.symm.trans p1
        · obtain ⟨s1, s2⟩ := sy_lg (m' := a.m) (ws' := a.ws) sy0 sx.sys.1 _ (Or.inr ⟨_, rfl⟩) (fun _ z => z) (e6 ▸ lg)
          exact ⟨⟨0, rfl, fun z => absurd z (by decide)⟩, ⟨g', s1, lg.1⟩, s2⟩
    · refine op2 (a' := (upd m' 0 (a.m 0 + 1), a.mi, a.hi, [], a.T, 0, -1)) (r := (0, a.m 0 + 1)) st0 hX0 (fun n1 h1 p => ?_) (fun c h1 p => ?_) (by simp) ?_
      · obtain ⟨m2, b', p1, -, e2, ro, K', W', ⟨at_, bg, dp, r2⟩, wx, F⟩ := p
        cases hlw.symm.trans p1
        cases e2
        have z := F.z
        exact ⟨rfl, rfl, xs_new gx X K' W' (fun k sk => by have := gx.2.1 k sk; omega) (rk.ro ro).txt ⟨f, _, at_, bg, dp, r2, tf⟩ wx (fun _ z => z) F (fun k z => z) (by omega) (by omega)⟩
      · obtain ⟨h2, z9, rfl, F, ⟨at_, bg, dp, r2⟩, wx, (⟨z', p1, -⟩ | ⟨m', p1, p2, -⟩)⟩ := p
        · cases hlw.symm.trans p1
        · exact absurd p2 c12
      · intro h2 S g gx sx sy
        have sy0 := sy
        obtain ⟨mm, qk, ⟨ad, qa⟩, qac, tp, ⟨fa, qf⟩, f7, f8, f9, e3, e6, e8, e12, ez⟩ := sy
        refine ev_mono (c_yValley mm v rk.2.2.1 sx.sys.2 (by have := gx.1; omega) tp qf qa ez e8 hl) ?_
        rintro u h3 (⟨m2, g', p1, -, -, rfl, lg, rfl⟩ | ⟨z', g', p1, -⟩ | ⟨m2, g', p1, p2, -⟩)
        · cases hlw.symm.trans p1
          obtain ⟨s1, s2⟩ := sy_lg (m' := upd m' 0 (a.m 0 + 1)) (ws' := []) sy0 sx.sys.1 _ (Or.inr ⟨_, rfl⟩) (fun _ _ => AR.nil) lg
          exact ⟨⟨_, rfl, fun _ => rfl⟩, ⟨g', s1, lg.1⟩, s2⟩
        · cases hlw.symm.trans p1
        · exact absurd p2 c12
end
