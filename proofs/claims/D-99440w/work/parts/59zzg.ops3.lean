/-! LOOKS AHEAD THROUGH HELPERS, on both sides -/
set_option maxRecDepth 100000
section
variable {G : am_G} {bs x : Nat} {h : am_H} {a : AA}
theorem o_gravel (st : STA G bs x h a) (n : Int32) : OP2 G bs x h a 47 m_X0_gravel [.ref x, .int n, .ref (x + 97)] 35 m_X6_gravel [.ref (x + 87), .int n] := by
  have st0 := st
  obtain ⟨S, g, lf, gx, ⟨b, l, K, W, X⟩, sy, o97⟩ := st
  have o := K.2.2.2.2.2.2.1
  obtain ⟨mt, bt, lt, wt⟩ := X.2.2.2.1
  have hq : (qGravel a.m n).1 = 0 ∨ (qGravel a.m n).1 = 1 := by unfold qGravel; (repeat' split) <;> simp
  refine op2 (a' := a) (r := qGravel a.m n) st0 (h_gravel (c_xGravel K (geo gx.1 gx.2.1 (by omega)) (geo gx.1 gx.2.1 (by omega)) wt n) (by decide) o (fun v1 h1 p => ?_) (fun c h1 p => ?_)) (fun n1 h1 p => ?_) (fun c h1 p => ?_) (by omega) (yp_yl (fun h2 g b mz as v yb lv => c_yGravel mz as v yb lv n))
  · obtain ⟨-, rfl, mx, r⟩ := p
    exact ⟨_, _, rfl, r.2.k o97 (by unfold HP InW; omega)⟩
  · obtain ⟨h1, rfl, -⟩ := p
    rcases hq with e | e
    · exact absurd e h1
    · rw [e]; decide
  · obtain ⟨e1, e2, mx, r⟩ := p
    cases e2
    exact ⟨e1, rfl, xs_hl gx K W X (Or.inl rfl) r⟩
  · obtain ⟨h1, rfl, rfl⟩ := p
    refine ⟨h1, ?_, xs_skip gx ⟨b, l, K, W, X⟩ (Nat.le_refl _)⟩
    rcases hq with e | e <;> rw [e] <;> first | exact absurd e h1 | rfl
theorem o_ahead (st : STA G bs x h a) (p n w : Int32) : OP2 G bs x h a 47 m_X0_ahead [.ref x, .int p, .int n, .int w, .ref (x + 97)] 35 m_X6_ahead [.ref (x + 87), .int p, .int n, .int w] := by
  have st0 := st
  obtain ⟨S, g, lf, gx, ⟨b, l, K, W, X⟩, sy, o97⟩ := st
  have o := K.2.2.2.2.2.2.1
  obtain ⟨mt, bt, lt, wt⟩ := X.2.2.2.1
  have hq : (qAhead a.m p n w).1 = 0 ∨ (qAhead a.m p n w).1 = 1 ∨ (qAhead a.m p n w).1 = 2 ∨ (qAhead a.m p n w).1 = 3 := by unfold qAhead; (repeat' split) <;> simp
  refine op2 (a' := a) (r := qAhead a.m p n w) st0 (h_ahead (c_xAhead K (geo gx.1 gx.2.1 (by omega)) (geo gx.1 gx.2.1 (by omega)) wt p n w) (by decide) o (fun v1 h1 p => ?_) (fun c h1 p => ?_)) (fun n1 h1 p => ?_) (fun c h1 p => ?_) (by omega) (yp_yl (fun h2 g b mz as v yb lv => c_yAhead mz as v yb lv p n w))
  · obtain ⟨-, rfl, mx, r⟩ := p
    exact ⟨_, _, rfl, r.2.k o97 (by unfold HP InW; omega)⟩
  · obtain ⟨h1, rfl, -⟩ := p
    rcases hq with e | e | e | e
    · exact absurd e h1
    · rw [e]; decide
    · rw [e]; decide
    · rw [e]; decide
  · obtain ⟨e1, e2, mx, r⟩ := p
    cases e2
    exact ⟨e1, rfl, xs_hl gx K W X (Or.inl rfl) r⟩
  · obtain ⟨h1, rfl, rfl⟩ := p
    refine ⟨h1, ?_, xs_skip gx ⟨b, l, K, W, X⟩ (Nat.le_refl _)⟩
    rcases hq with e | e | e | e <;> rw [e] <;> first | exact absurd e h1 | rfl
theorem o_trial (st : STA G bs x h a) (n u : Int32) : OP2 G bs x h a 47 m_X0_trial [.ref x, .int n, .int u, .ref (x + 97)] 35 m_X6_trial [.ref (x + 87), .int n, .int u] := by
  have st0 := st
  obtain ⟨S, g, lf, gx, ⟨b, l, K, W, X⟩, sy, o97⟩ := st
  have o := K.2.2.2.2.2.2.1
  obtain ⟨mt, bt, lt, wt⟩ := X.2.2.2.2.1
  have hq : (qTrial a.m n u).1 = 0 ∨ (qTrial a.m n u).1 = 1 := by unfold qTrial; (repeat' split) <;> simp
  refine op2 (a' := a) (r := qTrial a.m n u) st0 (h_trial (c_xTrial K (geo gx.1 gx.2.1 (by omega)) (geo gx.1 gx.2.1 (by omega)) wt n u) (by decide) o (fun v1 h1 p => ?_) (fun c h1 p => ?_)) (fun n1 h1 p => ?_) (fun c h1 p => ?_) (by omega) (yp_yl (fun h2 g b mz as v yb lv => c_yTrial mz as v yb lv n u))
  · obtain ⟨-, rfl, mx, r⟩ := p
    exact ⟨_, _, rfl, r.2.k o97 (by unfold HP InW; omega)⟩
  · obtain ⟨h1, rfl, -⟩ := p
    rcases hq with e | e
    · exact absurd e h1
    · rw [e]; decide
  · obtain ⟨e1, e2, mx, r⟩ := p
    cases e2
    exact ⟨e1, rfl, xs_hl gx K W X (Or.inr rfl) r⟩
  · obtain ⟨h1, rfl, rfl⟩ := p
    refine ⟨h1, ?_, xs_skip gx ⟨b, l, K, W, X⟩ (Nat.le_refl _)⟩
    rcases hq with e | e <;> rw [e] <;> first | exact absurd e h1 | rfl
theorem o_first (st : STA G bs x h a) (p : Int32) : OP2 G bs x h a 47 m_X0_first [.ref x, .int p, .ref (x + 97)] 35 m_X6_first [.ref (x + 87), .int p] := by
  have st0 := st
  obtain ⟨S, g, lf, gx, ⟨b, l, K, W, X⟩, sy, o97⟩ := st
  have o := K.2.2.2.2.2.2.1
  obtain ⟨mt, bt, lt, wt⟩ := X.2.2.2.1
  have hq : (qFirst a.m p).1 = 0 ∨ (qFirst a.m p).1 = 1 := by unfold qFirst; (repeat' split) <;> simp
  refine op2 (a' := a) (r := qFirst a.m p) st0 (h_first (c_xFirst K (geo gx.1 gx.2.1 (by omega)) (geo gx.1 gx.2.1 (by omega)) wt p) (by decide) o (fun v1 h1 p => ?_) (fun c h1 p => ?_)) (fun n1 h1 p => ?_) (fun c h1 p => ?_) (by omega) (yp_yl (fun h2 g b mz as v yb lv => c_yFirst mz as v yb lv p))
  · obtain ⟨-, rfl, mx, r⟩ := p
    exact ⟨_, _, rfl, r.2.k o97 (by unfold HP InW; omega)⟩
  · obtain ⟨h1, rfl, -⟩ := p
    rcases hq with e | e
    · exact absurd e h1
    · rw [e]; decide
  · obtain ⟨e1, e2, mx, r⟩ := p
    cases e2
    exact ⟨e1, rfl, xs_hl gx K W X (Or.inl rfl) r⟩
  · obtain ⟨h1, rfl, rfl⟩ := p
    refine ⟨h1, ?_, xs_skip gx ⟨b, l, K, W, X⟩ (Nat.le_refl _)⟩
    rcases hq with e | e <;> rw [e] <;> first | exact absurd e h1 | rfl
theorem o_span (st : STA G bs x h a) (n u : Int32) : OP2 G bs x h a 47 m_X0_span [.ref x, .int n, .int u, .ref (x + 97)] 35 m_X6_span [.ref (x + 87), .int n, .int u] := by
  have st0 := st
  obtain ⟨S, g, lf, gx, ⟨b, l, K, W, X⟩, sy, o97⟩ := st
  have o := K.2.2.2.2.2.2.1
  obtain ⟨mt, bt, lt, wt⟩ := X.2.2.2.2.1
  have hq : (qSpan a.m n u).1 = 0 ∨ (qSpan a.m n u).1 = 1 := by unfold qSpan; (repeat' split) <;> simp
  refine op2 (a' := a) (r := qSpan a.m n u) st0 (h_span (c_xSpan K (geo gx.1 gx.2.1 (by omega)) (geo gx.1 gx.2.1 (by omega)) wt n u) (by decide) o (fun v1 h1 p => ?_) (fun c h1 p => ?_)) (fun n1 h1 p => ?_) (fun c h1 p => ?_) (by omega) (yp_yl (fun h2 g b mz as v yb lv => c_ySpan mz as v yb lv n u))
  · obtain ⟨-, rfl, mx, r⟩ := p
    exact ⟨_, _, rfl, r.2.k o97 (by unfold HP InW; omega)⟩
  · obtain ⟨h1, rfl, -⟩ := p
    rcases hq with e | e
    · exact absurd e h1
    · rw [e]; decide
  · obtain ⟨e1, e2, mx, r⟩ := p
    cases e2
    exact ⟨e1, rfl, xs_hl gx K W X (Or.inr rfl) r⟩
  · obtain ⟨h1, rfl, rfl⟩ := p
    refine ⟨h1, ?_, xs_skip gx ⟨b, l, K, W, X⟩ (Nat.le_refl _)⟩
    rcases hq with e | e <;> rw [e] <;> first | exact absurd e h1 | rfl
theorem o_does (st : STA G bs x h a) (p w : Int32) : OP2 G bs x h a 44 m_X0_does [.ref x, .int p, .int w, .ref (x + 97)] 33 m_X6_does [.ref (x + 87), .int p, .int w] := by
  have st0 := st
  obtain ⟨S, g, lf, gx, ⟨b, l, K, W, X⟩, sy, o97⟩ := st
  have o := K.2.2.2.2.2.2.1
  have g1 : GEO bs x (x + 1) S := geo gx.1 gx.2.1 (by omega)
  have hq : (qDoes a.m p w).1 = 0 ∨ (qDoes a.m p w).1 = 1 ∨ (qDoes a.m p w).1 = 2 := by unfold qDoes; (repeat' split) <;> simp
  refine op2 (a' := a) (r := qDoes a.m p w) st0 (h_does (c_xDoes K g1 p w) (by decide) o (fun v1 h1 p => ?_) (fun c h1 p => ?_)) (fun n1 h1 p => ?_) (fun c h1 p => ?_) (by omega) ?_
  · obtain ⟨-, rfl, F, -⟩ := p
    exact ⟨_, _, rfl, F.k o97 (by unfold isR; omega)⟩
  · obtain ⟨h1, rfl, -⟩ := p
    rcases hq with e | e | e
    · exact absurd e h1
    · rw [e]; decide
    · rw [e]; decide
  · obtain ⟨e1, e2, F, hs⟩ := p
    cases e2
    obtain ⟨gb, sg, hn, hl, rk⟩ := gx
    have z := F.z
    have nS : ∀ k, isR (x + 48) k → ¬ S k := fun k z sk => by have := (sg k sk).1; unfold isR at z; omega
    exact ⟨e1, rfl, S, 0, 0, ⟨gb, fun k sk => by have := sg k sk; omega, by omega, hl, rk⟩, ⟨b, l, K.sc g1 F hs, W.kp F (fun k z => by unfold isR at z; omega), X.keep F (fun k z => ⟨by unfold isR at z; unfold OF; omega, nS k z⟩)⟩, F.mono (fun k z => by unfold isR at z; unfold XF; omega) (Nat.le_refl _) (Nat.le_refl _), by omega, by omega⟩
  · obtain ⟨h1, rfl, rfl⟩ := p
    refine ⟨h1, ?_, xs_skip gx ⟨b, l, K, W, X⟩ (Nat.le_refl _)⟩
    rcases hq with e | e | e <;> rw [e] <;> first | exact absurd e h1 | rfl
  · intro h2 S g gx sx sy
    obtain ⟨mz, v, ⟨b, yb⟩, as⟩ := sy_mz gx sx sy
    refine ev_mono (c_yDoes mz v gx.2.2.2.2.1 p w) ?_
    rintro u h3 ⟨rfl, g', mz', gk, F⟩
    have as' : ASD h3 (x + 87) := by obtain ⟨ad, z⟩ := as; exact ⟨ad, F.k z (by unfold AP; omega)⟩
    obtain ⟨z1, z2⟩ := sy_tq sy mz' as' gk (F.mono (fun k z => PP_TQ (AP_PP z)) (Nat.le_refl _) (Nat.le_refl _))
    exact ⟨⟨_, rfl, fun _ => rfl⟩, z1, z2⟩
theorem o_goes (st : STA G bs x h a) : OP1 G bs x h a 5 m_X1_goes [.ref x] 6 m_X6_goes [.ref (x + 87)] := by
  have st0 := st
  obtain ⟨S, g, lf, gx, ⟨b, l, K, W, X⟩, sy, o97⟩ := st
  have K0 := K
  obtain ⟨q1, v, yb, q4, q5, q6, o, q8⟩ := K0
  refine ⟨goesF a.m, op1 (a' := a) st0 (ev_mono (c_xGoes q5 o q1 v yb X.2.2.2.2.2.2.1) ?_) ?_⟩
  · rintro u h1 ⟨rfl, oa, F⟩
    obtain ⟨gb, sg, hn, hl, rk⟩ := gx
    have z := F.z
    have hS : ∀ k, isR (x + 71) k → ¬ S k := fun k z sk => by have := (sg k sk).1; unfold isR at z; omega
    obtain ⟨x1, x2, x3, x4, x5, x6, x7, x8⟩ := X
    refine ⟨rfl, S, 0, 0, ⟨gb, fun k sk => by have := sg k sk; omega, by omega, hl, rk⟩, ⟨b, l, K.kp F (fun k z => ?_), W.kp F (fun k z => by unfold isR at z; omega), x1.keep F (fun k z => ⟨by unfold isR at z; omega, hS k z⟩), x2.keep F (fun k z => by unfold isR at z; omega), x3.keep F (fun k z => by unfold isR at z; omega), x4.keep F (fun k z => by unfold isR at z; omega), x5.keep F (fun k z => by unfold isR at z; omega), x6.keep F (fun k z => by unfold isR at z; omega), oa, x8.keep F (fun k z => by unfold isR at z; omega)⟩, F.mono (fun k z => by unfold isR at z; unfold XF; omega) (Nat.le_refl _) (Nat.le_refl _), by omega, by omega⟩
    exact ⟨by unfold isR at z; omega, by unfold isR InW at *; omega, by unfold isR at z; omega, by unfold isR at z; omega, hS k z⟩
  · intro h2 S g gx sx sy
    obtain ⟨mz, v, ⟨b, yb⟩, as⟩ := sy_mz gx sx sy
    obtain ⟨q1, ⟨kp, q3, q3', q3''⟩, ⟨ad, q4⟩, ⟨ac, q5, q5'⟩, q6, ⟨fa, q7⟩, q8, ⟨f9, q9⟩, ⟨f10, q10⟩, q11⟩ := sy
    refine ev_mono (c_yGoes mz.2.1 mz.1 v q8) ?_
    rintro u h3 ⟨rfl, mm, oa, F⟩
    exact ⟨⟨_, rfl, fun _ => rfl⟩, ⟨_, ⟨mm, ⟨kp, F.k q3 (by omega), q3', q3''⟩, ⟨ad, F.k q4 (by omega)⟩, ⟨ac, F.k q5 (by omega), q5'⟩, F.k q6 (by omega), ⟨fa, F.k q7 (by omega)⟩, oa, ⟨f9, F.k q9 (by omega)⟩, ⟨f10, F.k q10 (by omega)⟩, q11⟩, upd_eq⟩, F.mono (fun k z => by unfold YF; omega) (Nat.le_refl _) (Nat.le_refl _)⟩
end
