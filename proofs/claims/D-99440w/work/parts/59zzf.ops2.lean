/-! CALLS ON BOTH SIDES: questions that throw nothing, looks ahead -/
set_option maxRecDepth 100000
/-- a call that throws nothing: what is known then -/
abbrev OP1 (G : am_G) (bs x : Nat) (h : am_H) (a : AA) (dx kX : Nat) (AsX : List Value) (dy kY : Nat) (AsY : List Value) : Prop := ∃ w, Ev G dx kX AsX h (fun v h1 => v = .int w ∧ CY bs x h h1 ∧ Ev G dy kY AsY h1 (fun u h2 => u = .int w ∧ FIN G bs x h a h2))
section
variable {G : am_G} {bs x dx dy kX kY : Nat} {h : am_H} {a a' : AA} {AsX AsY : List Value}
theorem op1q {w : Int32} (st : STA G bs x h a) (hX : Vc G dx kX AsX h (.int w)) (hY : ∀ h2 g, MM h2 (x + 87) g a.m → VR a.m → g 6 = nI a.ws.length → Yc G dy kY AsY h2 (x + 87) g (0, w)) : OP1 G bs x h a dx kX AsX dy kY AsY := by
  have st' := st
  obtain ⟨S0, g0, lf0, gx0, sx0, sy0, o0⟩ := st'
  refine ⟨w, op1 st (a' := a) (wc_mono (fun R e => ?_) hX) (yp_c (r := (0, w)) hY)⟩
  exact ⟨_, _, e, rfl, xs_same gx0 sx0⟩
theorem o_meet (st : STA G bs x h a) : OP1 G bs x h a 4 m_X1_meet [.ref x] 5 m_X6_meet [.ref (x + 87)] := by
  have st0 := st
  obtain ⟨S, g, lf, gx, ⟨b, l, ⟨q1, v, yb, q4, q5, q6, o, q8⟩, W, X⟩, sy, o97⟩ := st
  exact op1q st0 (c_xMeet o q1 v yb) (fun h2 g mm v _ => c_yMeet mm v)
theorem o_heap (st : STA G bs x h a) : OP1 G bs x h a 4 m_X1_heap [.ref x] 4 m_X6_heap [.ref (x + 87)] := by
  have st0 := st
  obtain ⟨S, g, lf, gx, ⟨b, l, ⟨q1, v, yb, q4, q5, q6, o, q8⟩, W, X⟩, sy, o97⟩ := st
  exact op1q st0 (c_xHeap o q1 v yb) (fun h2 g mm v _ => c_yHeap mm v)
theorem o_pairs (st : STA G bs x h a) : OP1 G bs x h a 4 m_X1_pairs [.ref x] 4 m_X6_pairs [.ref (x + 87)] := by
  have st0 := st
  obtain ⟨S, g, lf, gx, ⟨b, l, ⟨q1, v, yb, q4, q5, q6, o, q8⟩, W, X⟩, sy, o97⟩ := st
  exact op1q st0 (c_xPairs o q1 v yb) (fun h2 g mm v _ => c_yPairs mm v)
theorem o_heaviest (st : STA G bs x h a) : OP1 G bs x h a 4 m_X1_heaviest [.ref x] 4 m_X6_heaviest [.ref (x + 87)] := by
  have st0 := st
  obtain ⟨S, g, lf, gx, ⟨b, l, ⟨q1, v, yb, q4, q5, q6, o, q8⟩, W, X⟩, sy, o97⟩ := st
  exact op1q st0 (c_xHeaviest o q1 v yb) (fun h2 g mm v _ => c_yHeaviest mm v)
theorem o_count (st : STA G bs x h a) (w : Int32) : OP1 G bs x h a 5 m_X1_count [.ref x, .int w] 4 m_X6_count [.ref (x + 87), .int w] := by
  have st0 := st
  obtain ⟨S, g, lf, gx, ⟨b, l, ⟨q1, v, yb, q4, q5, q6, o, q8⟩, ⟨arr, W, -⟩, X⟩, sy, o97⟩ := st
  have e : (a.ws.map Prod.fst).length = a.ws.length := List.length_map _
  refine op1q st0 (c_xCount o q1 v yb q4 gx.2.2.2.2.2.1 W w) (fun h2 g mm v e6 => ?_)
  rw [e]
  exact c_yCount mm v e6 w
/-- the model after it has written but its numbers, facts and what was put aside -/
theorem sy_tq {h2 h3 : am_H} {g g' : Nat → Int32} {c : Int32} (sy : SYA x h2 g a) (mz : MZ G bs h3 (x + 87) g' a.m) (as : ASD h3 (x + 87)) (gk : gK (upd g 0 c) g') (f : HF (TQ (x + 87)) 0 0 h2 h3) : (∃ g', SYA x h3 g' a ∧ g' 0 = c) ∧ HF (YF x) 0 0 h2 h3 := by
  obtain ⟨⟨q1, q2⟩, ⟨kp, q3, q3', q3''⟩, -, ⟨ac, q5, q5'⟩, q6, -, ⟨f8, q8⟩, ⟨f9, q9⟩, ⟨f10, q10⟩, e3, e6, e8, e12, ez⟩ := sy
  obtain ⟨k0, k3, k6, k8, k12, kz⟩ := gk
  have no : ∀ k, x + 87 + 2 ≤ k → k ≠ x + 87 + 3 → k ≠ x + 87 + 6 → ¬ TQ (x + 87) k := fun k h1 h3 h6 z => by unfold TQ at z; omega
  exact ⟨⟨g', ⟨mz.1, ⟨kp, f.k q3 (no _ (by omega) (by omega) (by omega)), q3', q3''⟩, as, ⟨ac, f.k q5 (no _ (by omega) (by omega) (by omega)), q5'⟩, f.k q6 (no _ (by omega) (by omega) (by omega)), mz.2.2.2.2.2, ⟨f8, f.k q8 (no _ (by omega) (by omega) (by omega))⟩, ⟨f9, f.k q9 (no _ (by omega) (by omega) (by omega))⟩, ⟨f10, f.k q10 (no _ (by omega) (by omega) (by omega))⟩, k3.trans e3, k6.trans e6, k8.trans e8, k12.trans e12, kz ez⟩, k0⟩, f.mono (fun k z => by unfold TQ at z; unfold YF; omega) (Nat.le_refl _) (Nat.le_refl _)⟩
theorem sy_mz {h2 : am_H} {S : Nat → Prop} {g : Nat → Int32} (gx : GX bs x S h2 a) (sx : SXA G bs x S h2 a) (sy : SYA x h2 g a) : MZ G bs h2 (x + 87) g a.m ∧ VR a.m ∧ (∃ b, BY b a.m) ∧ ASD h2 (x + 87) := by
  obtain ⟨b, l, ⟨q1, v, yb, q4, q5, q6, o, q8⟩, W, X⟩ := sx
  obtain ⟨mm, -, as, -, tp, fa, -⟩ := sy
  exact ⟨⟨mm, q5, q6, by have := gx.1; omega, ⟨_, tp⟩, fa⟩, v, ⟨b, yb⟩, as⟩
/-- a look ahead of the model -/
theorem yp_yl {r : Nat × Int32} (hY : ∀ h2 g b, MZ G bs h2 (x + 87) g a.m → ASD h2 (x + 87) → VR a.m → BY b a.m → LV a.m → Ev G dy kY AsY h2 (fun u h3 => u = .int r.2 ∧ YL G bs (x + 87) h2 (upd g 0 (nI r.1)) a.m h3)) : YP G bs x dy kY AsY a a (nI r.1) r.2 := by
  intro h2 S g gx sx sy
  obtain ⟨mz, v, ⟨b, yb⟩, as⟩ := sy_mz gx sx sy
  refine ev_mono (hY h2 g b mz as v yb gx.2.2.2.2.1) ?_
  rintro u h3 ⟨rfl, g', mz', as', gk, F⟩
  obtain ⟨z1, z2⟩ := sy_tq sy mz' as' gk F
  exact ⟨⟨_, rfl, fun _ => rfl⟩, z1, z2⟩
/-- the system after a look ahead -/
theorem xs_hl {S : Nat → Prop} {w : Nat} {b mx : Nat → Int32} {l : Value} {h1 : am_H} (gx : GX bs x S h a) (K : HS G bs x (x + 1) S a.hi h a.m b l) (W : WB G bs x S h l a.m a.ws) (X : OX G bs x S a.hi h a.mi a.T a.len a.ft) (hw : w = x + 49 ∨ w = x + 72) (r : HL G bs x w S a.hi h b l mx h1) : XS G bs x h a h1 a := by
  obtain ⟨gb, sg, hn, hl, rk⟩ := gx
  have g1 : GEO bs x (x + 1) S := geo gb sg (by omega)
  have ge : GEO bs x w S := geo gb sg (by omega)
  have K1 := K.keep1 g1 ge (by omega) r
  obtain ⟨rs, F⟩ := r
  have z := F.z
  obtain ⟨x1, x2, x3, x4, x5, x6, ⟨f7, x7⟩, x8⟩ := X
  have nS : ∀ k, HP w x k → ¬ S k := fun k z sk => ge.2.2.2 k sk z
  have hp : ∀ k, HP w x k → k = x + 48 ∨ (w ≤ k ∧ k < w + 15) := fun k z => by unfold HP InW at z; omega
  refine ⟨S, 0, 0, ⟨gb, fun k sk => by have := sg k sk; omega, by omega, hl, rk⟩, ⟨b, l, K1, W.kp F (fun k z => by have := hp k z; omega), ?_⟩, F.mono (fun k z => by have := hp k z; unfold XF; omega) (Nat.le_refl _) (Nat.le_refl _), by omega, by omega⟩
  refine ⟨x1.keep F (fun k z => ⟨by have := hp k z; omega, nS k z⟩), x2.keep F (fun k z => by have := hp k z; omega), x3.keep F (fun k z => by have := hp k z; omega), ?_, ?_, x6.keep F (fun k z => by have := hp k z; omega), ⟨f7, F.k x7 (fun z => by have := hp _ z; omega)⟩, x8.keep F (fun k z => by have := hp k z; omega)⟩
  · rcases hw with rfl | rfl
    · exact ⟨_, _, _, rs.1⟩
    · exact x4.keep F (fun k z => by have := hp k z; omega)
  · rcases hw with rfl | rfl
    · exact x5.keep F (fun k z => by have := hp k z; omega)
    · exact ⟨_, _, _, rs.1⟩
theorem o_last (st : STA G bs x h a) (who : Int32) : OP1 G bs x h a 46 m_X1_last [.ref x, .int who] 35 m_X6_last [.ref (x + 87), .int who] := by
  have st0 := st
  obtain ⟨S, g, lf, gx, ⟨b, l, K, W, X⟩, sy, o97⟩ := st
  obtain ⟨mt, bt, lt, wt⟩ := X.2.2.2.1
  refine ⟨lastF a.m who, op1 (a' := a) st0 (ev_mono (c_xLast K (geo gx.1 gx.2.1 (by omega)) (geo gx.1 gx.2.1 (by omega)) wt who) ?_) (yp_yl (r := (0, lastF a.m who)) (fun h2 g b mz as v yb lv => c_yLast mz as v yb lv who))⟩
  rintro v h1 ⟨rfl, mx, r⟩
  exact ⟨rfl, xs_hl gx K W X (Or.inl rfl) r⟩
end
