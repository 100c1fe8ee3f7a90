/-! QUESTIONS THROUGH HELPERS, on both sides -/
set_option maxRecDepth 100000
/-- a call through a helper: what is known then -/
abbrev OP2 (G : am_G) (bs x : Nat) (h : am_H) (a : AA) (dx kX : Nat) (AsX : List Value) (dy kY : Nat) (AsY : List Value) : Prop := Ev G dx kX AsX h (fun v h1 => ∃ code, v = .int code ∧ CY bs x h h1 ∧ (∃ lf, h1.1 (x + 97) = some (lcell lf)) ∧ Ev G dy kY AsY h1 (fun u h2 => ∃ w, u = .int w ∧ FIN G bs x h a h2 ∧ (∃ lf, h2.1 (x + 97) = some (lcell lf) ∧ (code = 0 → lf 0 = w.toInt64)) ∧ ∃ g, h2.1 (x + 87) = some (mcell (x + 87) g) ∧ g 0 = code))
section
variable {G : am_G} {bs x : Nat} {h : am_H} {a : AA}
theorem o_person (st : STA G bs x h a) (p w : Int32) : OP2 G bs x h a 5 m_X0_person [.ref x, .int p, .int w, .ref (x + 97)] 4 m_X6_person [.ref (x + 87), .int p, .int w] := by
  have st0 := st
  obtain ⟨S, g, lf, ⟨gx, sg, hn, hl, lv, lc, lb, hz⟩, ⟨b, l, ⟨q1, v, yb, q4, q5, q6, o, q8⟩, W, X⟩, sy, o97⟩ := st
  have hq : (qPerson a.m p w).1 = 0 ∨ (qPerson a.m p w).1 = 1 ∨ (qPerson a.m p w).1 = 2 := by unfold qPerson; (repeat' split) <;> simp
  refine op2q (cls := (k2 20 21)) (r := qPerson a.m p w) st0 (h_person (c_xPerson o q1 v yb p w) (by decide) o (by rintro v1 h1 ⟨-, rfl, rfl⟩; exact ⟨_, _, rfl, o97⟩) (by rintro c h1 ⟨h1, rfl, -⟩; rcases hq with e | e | e; exact absurd e h1; rw [e]; decide; rw [e]; decide)) ?_ ?_ (fun h2 g mm v _ => c_yPerson mm v p w)
  · rcases hq with e | e | e <;> rw [e] <;> first | exact fun h => absurd rfl h | exact fun _ => rfl
  · omega
theorem o_stone (st : STA G bs x h a) (p w : Int32) : OP2 G bs x h a 5 m_X0_stone [.ref x, .int p, .int w, .ref (x + 97)] 4 m_X6_stone [.ref (x + 87), .int p, .int w] := by
  have st0 := st
  obtain ⟨S, g, lf, ⟨gx, sg, hn, hl, lv, lc, lb, hz⟩, ⟨b, l, ⟨q1, v, yb, q4, q5, q6, o, q8⟩, W, X⟩, sy, o97⟩ := st
  have hq : (qStone a.m p w).1 = 0 ∨ (qStone a.m p w).1 = 1 ∨ (qStone a.m p w).1 = 2 := by unfold qStone; (repeat' split) <;> simp
  refine op2q (cls := (k2 20 21)) (r := qStone a.m p w) st0 (h_stone (c_xStone o q1 v yb p w) (by decide) o (by rintro v1 h1 ⟨-, rfl, rfl⟩; exact ⟨_, _, rfl, o97⟩) (by rintro c h1 ⟨h1, rfl, -⟩; rcases hq with e | e | e; exact absurd e h1; rw [e]; decide; rw [e]; decide)) ?_ ?_ (fun h2 g mm v _ => c_yStone mm v p w)
  · rcases hq with e | e | e <;> rw [e] <;> first | exact fun h => absurd rfl h | exact fun _ => rfl
  · omega
theorem o_place (st : STA G bs x h a) (p w : Int32) : OP2 G bs x h a 5 m_X0_place [.ref x, .int p, .int w, .ref (x + 97)] 4 m_X6_place [.ref (x + 87), .int p, .int w] := by
  have st0 := st
  obtain ⟨S, g, lf, ⟨gx, sg, hn, hl, lv, lc, lb, hz⟩, ⟨b, l, ⟨q1, v, yb, q4, q5, q6, o, q8⟩, W, X⟩, sy, o97⟩ := st
  have hq : (qPlace a.m p w).1 = 0 ∨ (qPlace a.m p w).1 = 1 ∨ (qPlace a.m p w).1 = 2 := by unfold qPlace; (repeat' split) <;> simp
  refine op2q (cls := (k2 20 21)) (r := qPlace a.m p w) st0 (h_place (c_xPlace o q1 v yb p w) (by decide) o (by rintro v1 h1 ⟨-, rfl, rfl⟩; exact ⟨_, _, rfl, o97⟩) (by rintro c h1 ⟨h1, rfl, -⟩; rcases hq with e | e | e; exact absurd e h1; rw [e]; decide; rw [e]; decide)) ?_ ?_ (fun h2 g mm v _ => c_yPlace mm v p w)
  · rcases hq with e | e | e <;> rw [e] <;> first | exact fun h => absurd rfl h | exact fun _ => rfl
  · omega
theorem o_way (st : STA G bs x h a) (p w : Int32) : OP2 G bs x h a 5 m_X0_way [.ref x, .int p, .int w, .ref (x + 97)] 4 m_X6_way [.ref (x + 87), .int p, .int w] := by
  have st0 := st
  obtain ⟨S, g, lf, ⟨gx, sg, hn, hl, lv, lc, lb, hz⟩, ⟨b, l, ⟨q1, v, yb, q4, q5, q6, o, q8⟩, W, X⟩, sy, o97⟩ := st
  have hq : (qWay a.m p w).1 = 0 ∨ (qWay a.m p w).1 = 1 := by unfold qWay; (repeat' split) <;> simp
  refine op2q (cls := (k1 20)) (r := qWay a.m p w) st0 (h_way (c_xWay o q1 v yb p w) (by decide) o (by rintro v1 h1 ⟨-, rfl, rfl⟩; exact ⟨_, _, rfl, o97⟩) (by rintro c h1 ⟨h1, rfl, -⟩; rcases hq with e | e; exact absurd e h1; rw [e]; decide)) ?_ ?_ (fun h2 g mm v _ => c_yWay mm v p w)
  · rcases hq with e | e <;> rw [e] <;> first | exact fun h => absurd rfl h | exact fun _ => rfl
  · omega
theorem o_soonest (st : STA G bs x h a) (p : Int32) : OP2 G bs x h a 5 m_X0_soonest [.ref x, .int p, .ref (x + 97)] 4 m_X6_soonest [.ref (x + 87), .int p] := by
  have st0 := st
  obtain ⟨S, g, lf, ⟨gx, sg, hn, hl, lv, lc, lb, hz⟩, ⟨b, l, ⟨q1, v, yb, q4, q5, q6, o, q8⟩, W, X⟩, sy, o97⟩ := st
  have hq : (qSoon a.m p).1 = 0 ∨ (qSoon a.m p).1 = 1 := by unfold qSoon; (repeat' split) <;> simp
  refine op2q (cls := (k1 20)) (r := qSoon a.m p) st0 (h_soonest (c_xSoon o q1 v yb p) (by decide) o (by rintro v1 h1 ⟨-, rfl, rfl⟩; exact ⟨_, _, rfl, o97⟩) (by rintro c h1 ⟨h1, rfl, -⟩; rcases hq with e | e; exact absurd e h1; rw [e]; decide)) ?_ ?_ (fun h2 g mm v _ => c_ySoon mm v p)
  · rcases hq with e | e <;> rw [e] <;> first | exact fun h => absurd rfl h | exact fun _ => rfl
  · omega
theorem o_cross (st : STA G bs x h a) (p : Int32) : OP2 G bs x h a 5 m_X0_cross [.ref x, .int p, .ref (x + 97)] 4 m_X6_cross [.ref (x + 87), .int p] := by
  have st0 := st
  obtain ⟨S, g, lf, ⟨gx, sg, hn, hl, lv, lc, lb, hz⟩, ⟨b, l, ⟨q1, v, yb, q4, q5, q6, o, q8⟩, W, X⟩, sy, o97⟩ := st
  have hq : (qCross a.m p).1 = 0 ∨ (qCross a.m p).1 = 1 := by unfold qCross; (repeat' split) <;> simp
  refine op2q (cls := (k1 20)) (r := qCross a.m p) st0 (h_cross (c_xCross o q1 v yb p) (by decide) o (by rintro v1 h1 ⟨-, rfl, rfl⟩; refine ⟨_, _, rfl, o97, ?_⟩; unfold qCross; (repeat' split) <;> first | exact Or.inl rfl | exact bI_01 _) (by rintro c h1 ⟨h1, rfl, -⟩; rcases hq with e | e; exact absurd e h1; rw [e]; decide)) ?_ ?_ (fun h2 g mm v _ => c_yCross mm v p)
  · rcases hq with e | e <;> rw [e] <;> first | exact fun h => absurd rfl h | exact fun _ => rfl
  · omega
theorem o_shed (st : STA G bs x h a) (p : Int32) : OP2 G bs x h a 5 m_X0_shed [.ref x, .int p, .ref (x + 97)] 4 m_X6_shed [.ref (x + 87), .int p] := by
  have st0 := st
  obtain ⟨S, g, lf, ⟨gx, sg, hn, hl, lv, lc, lb, hz⟩, ⟨b, l, ⟨q1, v, yb, q4, q5, q6, o, q8⟩, W, X⟩, sy, o97⟩ := st
  have hq : (qShed a.m p).1 = 0 ∨ (qShed a.m p).1 = 1 := by unfold qShed; (repeat' split) <;> simp
  refine op2q (cls := (k1 20)) (r := qShed a.m p) st0 (h_shed (c_xShed o q1 v yb lb p) (by decide) o (by rintro v1 h1 ⟨-, rfl, rfl⟩; exact ⟨_, _, rfl, o97⟩) (by rintro c h1 ⟨h1, rfl, -⟩; rcases hq with e | e; exact absurd e h1; rw [e]; decide)) ?_ ?_ (fun h2 g mm v _ => c_yShed mm v p)
  · rcases hq with e | e <;> rw [e] <;> first | exact fun h => absurd rfl h | exact fun _ => rfl
  · omega
theorem o_pays (st : STA G bs x h a) (p w : Int32) : OP2 G bs x h a 5 m_X0_pays [.ref x, .int p, .int w, .ref (x + 97)] 4 m_X6_pays [.ref (x + 87), .int p, .int w] := by
  have st0 := st
  obtain ⟨S, g, lf, ⟨gx, sg, hn, hl, lv, lc, lb, hz⟩, ⟨b, l, ⟨q1, v, yb, q4, q5, q6, o, q8⟩, W, X⟩, sy, o97⟩ := st
  have hq : (qPays a.m p w).1 = 0 ∨ (qPays a.m p w).1 = 1 := by unfold qPays; (repeat' split) <;> simp
  refine op2q (cls := (k1 20)) (r := qPays a.m p w) st0 (h_pays (c_xPays o q1 v yb p w) (by decide) o (by rintro v1 h1 ⟨-, rfl, rfl⟩; exact ⟨_, _, rfl, o97⟩) (by rintro c h1 ⟨h1, rfl, -⟩; rcases hq with e | e; exact absurd e h1; rw [e]; decide)) ?_ ?_ (fun h2 g mm v _ => c_yPays mm v p w)
  · rcases hq with e | e <;> rw [e] <;> first | exact fun h => absurd rfl h | exact fun _ => rfl
  · omega
theorem o_owes (st : STA G bs x h a) (p w : Int32) : OP2 G bs x h a 5 m_X0_owes [.ref x, .int p, .int w, .ref (x + 97)] 4 m_X6_owes [.ref (x + 87), .int p, .int w] := by
  have st0 := st
  obtain ⟨S, g, lf, ⟨gx, sg, hn, hl, lv, lc, lb, hz⟩, ⟨b, l, ⟨q1, v, yb, q4, q5, q6, o, q8⟩, W, X⟩, sy, o97⟩ := st
  have hq : (qOwes a.m p w).1 = 0 ∨ (qOwes a.m p w).1 = 1 ∨ (qOwes a.m p w).1 = 2 := by unfold qOwes; (repeat' split) <;> simp
  refine op2q (cls := (k2 20 18)) (r := qOwes a.m p w) st0 (h_owes (c_xOwes o q1 v  p w) (by decide) o (by rintro v1 h1 ⟨-, rfl, rfl⟩; refine ⟨_, _, rfl, o97, ?_⟩; unfold qOwes; (repeat' split) <;> first | exact Or.inl rfl | exact bI_01 _) (by rintro c h1 ⟨h1, rfl, -⟩; rcases hq with e | e | e; exact absurd e h1; rw [e]; decide; rw [e]; decide)) ?_ ?_ (fun h2 g mm v _ => c_yOwes mm v p w)
  · rcases hq with e | e | e <;> rw [e] <;> first | exact fun h => absurd rfl h | exact fun _ => rfl
  · omega
theorem o_rests (st : STA G bs x h a) (p w u : Int32) : OP2 G bs x h a 5 m_X0_rests [.ref x, .int p, .int w, .int u, .ref (x + 97)] 4 m_X6_rests [.ref (x + 87), .int p, .int w, .int u] := by
  have st0 := st
  obtain ⟨S, g, lf, ⟨gx, sg, hn, hl, lv, lc, lb, hz⟩, ⟨b, l, ⟨q1, v, yb, q4, q5, q6, o, q8⟩, W, X⟩, sy, o97⟩ := st
  have hq : (qRests a.m p w u).1 = 0 ∨ (qRests a.m p w u).1 = 1 ∨ (qRests a.m p w u).1 = 2 := by unfold qRests; (repeat' split) <;> simp
  refine op2q (cls := (k2 20 18)) (r := qRests a.m p w u) st0 (h_rests (c_xRests o q1 v yb p w u) (by decide) o (by rintro v1 h1 ⟨-, rfl, rfl⟩; exact ⟨_, _, rfl, o97⟩) (by rintro c h1 ⟨h1, rfl, -⟩; rcases hq with e | e | e; exact absurd e h1; rw [e]; decide; rw [e]; decide)) ?_ ?_ (fun h2 g mm v _ => c_yRests mm v p w u)
  · rcases hq with e | e | e <;> rw [e] <;> first | exact fun h => absurd rfl h | exact fun _ => rfl
  · omega
theorem o_led (st : STA G bs x h a) (p w : Int32) : OP2 G bs x h a 5 m_X0_led [.ref x, .int p, .int w, .ref (x + 97)] 4 m_X6_led [.ref (x + 87), .int p, .int w] := by
  have st0 := st
  obtain ⟨S, g, lf, ⟨gx, sg, hn, hl, lv, lc, lb, hz⟩, ⟨b, l, ⟨q1, v, yb, q4, q5, q6, o, q8⟩, W, X⟩, sy, o97⟩ := st
  have hq : (qLed a.m p w).1 = 0 ∨ (qLed a.m p w).1 = 1 := by unfold qLed; (repeat' split) <;> simp
  refine op2q (cls := (k1 20)) (r := qLed a.m p w) st0 (h_led (c_xLed o q1 v  p w) (by decide) o (by rintro v1 h1 ⟨-, rfl, rfl⟩; exact ⟨_, _, rfl, o97⟩) (by rintro c h1 ⟨h1, rfl, -⟩; rcases hq with e | e; exact absurd e h1; rw [e]; decide)) ?_ ?_ (fun h2 g mm v _ => c_yLed mm v p w)
  · rcases hq with e | e <;> rw [e] <;> first | exact fun h => absurd rfl h | exact fun _ => rfl
  · omega
theorem o_log (st : STA G bs x h a) (p w : Int32) : OP2 G bs x h a 5 m_X0_log [.ref x, .int p, .int w, .ref (x + 97)] 4 m_X6_log [.ref (x + 87), .int p, .int w] := by
  have st0 := st
  obtain ⟨S, g, lf, ⟨gx, sg, hn, hl, lv, lc, lb, hz⟩, ⟨b, l, ⟨q1, v, yb, q4, q5, q6, o, q8⟩, W, X⟩, sy, o97⟩ := st
  have hq : (qLog a.m p w).1 = 0 ∨ (qLog a.m p w).1 = 1 := by unfold qLog; (repeat' split) <;> simp
  refine op2q (cls := (k1 21)) (r := qLog a.m p w) st0 (h_log (c_xLog o q1 v  p w) (by decide) o (by rintro v1 h1 ⟨-, rfl, rfl⟩; exact ⟨_, _, rfl, o97⟩) (by rintro c h1 ⟨h1, rfl, -⟩; rcases hq with e | e; exact absurd e h1; rw [e]; decide)) ?_ ?_ (fun h2 g mm v _ => c_yLog mm v p w)
  · rcases hq with e | e <;> rw [e] <;> first | exact fun h => absurd rfl h | exact fun _ => rfl
  · omega
end
