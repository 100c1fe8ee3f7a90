/-! CALLS ON BOTH SIDES: scales, weigh, the law, the valley -/
set_option maxRecDepth 100000
section
variable {G : am_G} {bs x dx dy kX kY : Nat} {h : am_H} {a a' : AA} {AsX AsY : List Value}
theorem isR_T {k : Nat} (z : isR (x + 46) k) : isRT (x + 46) k := Or.inl z
/-- the tape is used up -/
theorem xs_tu {S : Nat → Prop} {b : Nat → Int32} {l : Value} {h1 : am_H} {f T : Nat → Int32} {bg ft : Int32} (gx : GX bs x S h a) (K : HS G bs x (x + 1) S a.hi h a.m b l) (W : WB G bs x S h l a.m a.ws) (X : OX G bs x S a.hi h a.mi a.T a.len a.ft) (tf : TF a.T f) (r : RS h1 (x + 46) f 0 a.len 0 bg a.ft 0) (F : HF (isR (x + 46)) 0 0 h h1) : XS G bs x h a h1 (a.m, a.mi, a.hi, a.ws, a.T, 0, a.ft) :=
  xs_rd (len' := 0) gx K W X (by decide) ⟨f, a.len, 0, bg, 0, r, tf⟩ (F.mono (fun k z => isR_T z) (Nat.le_refl _) (Nat.le_refl _)) (by omega) (by omega)
/-- used up, and thrown -/
theorem xs_tu6 {S : Nat → Prop} {b : Nat → Int32} {l : Value} {h1 : am_H} {f : Nat → Int32} {bg : Int32} (gx : GX bs x S h a) (K : HS G bs x (x + 1) S a.hi h a.m b l) (W : WB G bs x S h l a.m a.ws) (X : OX G bs x S a.hi h a.mi a.T a.len a.ft) (tf : TF a.T f) (r : RS h1 (x + 46) f 0 a.len 0 bg a.ft 0) (F : HF (isR (x + 46)) 0 0 h h1) : XS G bs x h a (am_skip h1 6) (a.m, a.mi, a.hi, a.ws, a.T, 0, a.ft) := by
  obtain ⟨S', c, s, gx', sx', F', k1, k2⟩ := xs_tu (T := a.T) (ft := a.ft) gx K W X tf r F
  have F1 : HF (fun _ => False) 1 6 h1 (am_skip h1 6) := HF.skip sx'.sys.1
  have F2 : HF (XF bs x) 1 6 h (am_skip h1 6) := (HF.trans (F.mono (fun k z => by unfold isR at z; have := gx.1; unfold XF; omega) (Nat.le_refl _) (Nat.le_refl _)) (F1.mono (fun k z => z.elim) (Nat.le_refl _) (Nat.le_refl _))).mono (fun _ z => z) (Nat.le_refl _) (Nat.le_refl _)
  obtain ⟨g1, g2, g3, g4, g5⟩ := gx'
  have z := F1.z
  exact ⟨S', 1, 6, ⟨g1, fun k sk => by have := g2 k sk; omega, by omega, g4, g5⟩, sx'.keep g1 g2 F1 (fun k z => z.elim), F2, (by show 6 + 5600 * 0 ≤ _; omega), (by show 1 + 35 * 0 ≤ _; omega)⟩
theorem yp_tu {r : Nat × Int32} (hY : ∀ h2 g, MM h2 (x + 87) g a.m → VR a.m → h2.1 (x + 87 + 5) = some (.inl (0, 400, .inl a.T)) → g 8 = nI a.len → Uc G dy kY AsY h2 (.int r.2) (mh h2 (x + 87) (upd (upd g 8 0) 0 (nI r.1)))) : YP G bs x dy kY AsY a (a.m, a.mi, a.hi, a.ws, a.T, 0, a.ft) (nI r.1) r.2 := by
  intro h2 S g gx sx sy
  have hw := sx.sys.1
  have v : VR a.m := by obtain ⟨b, l, ⟨-, v, -⟩, -⟩ := sx; exact v
  obtain ⟨⟨q1, q2⟩, ⟨kp, q3, q3', q3''⟩, ⟨ad, q4⟩, ⟨ac, q5, q5'⟩, q6, ⟨fa, q7⟩, ⟨f8, q8⟩, ⟨f9, q9⟩, ⟨f10, q10⟩, e3, e6, e8, e12, ez⟩ := sy
  obtain ⟨j, R, e, er⟩ := hY h2 g ⟨q1, q2⟩ v q6 e8
  subst er
  exact ⟨j, _, e, _, _, rfl, ⟨_, rfl, fun _ => rfl⟩, ⟨_, ⟨⟨am_set_at, am_set_k q2 (by omega)⟩, ⟨kp, am_set_k q3 (by omega), q3', q3''⟩, ⟨ad, am_set_k q4 (by omega)⟩, ⟨ac, am_set_k q5 (by omega), q5'⟩, am_set_k q6 (by omega), ⟨fa, am_set_k q7 (by omega)⟩, ⟨f8, am_set_k q8 (by omega)⟩, ⟨f9, am_set_k q9 (by omega)⟩, ⟨f10, am_set_k q10 (by omega)⟩, e3, e6, rfl, e12, ez⟩, upd_eq⟩, (HF.set hw q1).mono (fun k z => by unfold YF; omega) (Nat.le_refl _) (Nat.le_refl _)⟩
theorem o_scales (st : STA G bs x h a) (no : Int32) : OP2 G bs x h a 8 m_X0_scales [.ref x, .int no, .ref (x + 97)] 7 m_X6_scales [.ref (x + 87), .int no] := by
  have st0 := st
  obtain ⟨S, g, lf, gx, ⟨b, l, K, W, X⟩, sy, o97⟩ := st
  obtain ⟨f, n, at_, bg, dp, rr, tf⟩ := X.2.2.2.2.2.1
  have hl := gx.2.2.2.1
  obtain ⟨q1, v, yb, q4, q5, q6, o, q8⟩ := id K
  have hq : (qScales a.m a.T a.len no).1 = 0 ∨ (qScales a.m a.T a.len no).1 = 1 := by unfold qScales; (repeat' split) <;> simp
  refine op2 (a' := (a.m, a.mi, a.hi, a.ws, a.T, 0, a.ft)) (r := qScales a.m a.T a.len no) st0 (h_scales (c_xScales q5 o q1 v yb rr hl tf.tb (fun k hk => (tf k hk).2) no) (by decide) o (fun v1 h1 p => ?_) (fun c h1 p => ?_)) (fun n1 h1 p => ?_) (fun c h1 p => ?_) (by omega) (yp_tu (fun h2 g mm v tp e8 => c_yScales mm v tp tf.tb e8 hl no))
  · obtain ⟨-, rfl, -, F⟩ := p
    exact ⟨_, _, rfl, F.k o97 (by unfold isR; omega)⟩
  · exact p.2.1
  · obtain ⟨e1, e2, r, F⟩ := p
    cases e2
    exact ⟨e1, rfl, xs_tu (T := a.T) (ft := a.ft) gx K W X tf r F⟩
  · obtain ⟨h1, rfl, h2, r, F, rfl⟩ := p
    refine ⟨h1, ?_, xs_tu6 gx K W X tf r F⟩
    rcases hq with e | e <;> rw [e] <;> first | exact absurd e h1 | rfl
theorem o_weigh (st : STA G bs x h a) : OP2 G bs x h a 8 m_X0_weigh [.ref x, .ref (x + 97)] 7 m_X6_weigh [.ref (x + 87)] := by
  have st0 := st
  obtain ⟨S, g, lf, gx, ⟨b, l, K, W, X⟩, sy, o97⟩ := st
  obtain ⟨f, n, at_, bg, dp, rr, tf⟩ := X.2.2.2.2.2.1
  have hl := gx.2.2.2.1
  obtain ⟨q1, v, yb, q4, q5, q6, o, q8⟩ := id K
  have hq : (qWeigh a.m a.T a.len).1 = 0 ∨ (qWeigh a.m a.T a.len).1 = 1 := by unfold qWeigh; (repeat' split) <;> simp
  refine op2 (a' := (a.m, a.mi, a.hi, a.ws, a.T, 0, a.ft)) (r := qWeigh a.m a.T a.len) st0 (h_weigh (c_xWeigh q5 o q1 v yb rr hl tf.tb (fun k hk => (tf k hk).2)) (by decide) o (fun v1 h1 p => ?_) (fun c h1 p => ?_)) (fun n1 h1 p => ?_) (fun c h1 p => ?_) (by omega) (yp_tu (fun h2 g mm v tp e8 => c_yWeigh mm v tp tf.tb e8 hl))
  · obtain ⟨-, rfl, -, F⟩ := p
    exact ⟨_, _, rfl, F.k o97 (by unfold isR; omega)⟩
  · exact p.2.1
  · obtain ⟨e1, e2, r, F⟩ := p
    cases e2
    exact ⟨e1, rfl, xs_tu (T := a.T) (ft := a.ft) gx K W X tf r F⟩
  · obtain ⟨h1, rfl, h2, r, F, rfl⟩ := p
    refine ⟨h1, ?_, xs_tu6 gx K W X tf r F⟩
    rcases hq with e | e <;> rw [e] <;> first | exact absurd e h1 | rfl
/-- the model after a text -/
theorem sy_lg {h2 : am_H} {g g' : Nat → Int32} {th ft : Int32} {m' : Nat → Int32} (sy : SYA x h2 g a) (hw : HW h2) (h3 : am_H) (hA : h3 = h2 ∨ ∃ ad, h3 = am_set h2 (x + 87 + 3) (.inl (0, 369, .inl ad))) {ws' : List (Nat × (Nat → Int32))} (har : ∀ ac, AR ac a.ws → AR ac ws') (lg : LG g g' th ft (nI ws'.length)) : SYA x (mh (hr h3 (x + 87) m') (x + 87) g') g' (m', a.mi, a.hi, ws', a.T, 0, ft) ∧ HF (YF x) 0 0 h2 (mh (hr h3 (x + 87) m') (x + 87) g') := by
  obtain ⟨⟨q1, q2⟩, ⟨kp, q3, q3', q3''⟩, ⟨aa, q4⟩, ⟨ac, q5, q5'⟩, q6, ⟨fa, q7⟩, ⟨f8, q8⟩, ⟨f9, q9⟩, ⟨f10, q10⟩, e3, e6, e8, e12, ez⟩ := sy
  obtain ⟨k0, k3, k6, k8, k12, kz⟩ := lg
  have F0 : HF (YF x) 0 0 h2 h3 ∧ (∀ {i : Nat} {w : am_C}, h2.1 (x + 87 + i) = some w → i ≠ 3 → h3.1 (x + 87 + i) = some w) ∧ ∃ ad, h3.1 (x + 87 + 3) = some (.inl (0, 369, .inl ad)) := by
    rcases hA with rfl | ⟨ad, rfl⟩
    · exact ⟨HF.refl hw, fun z _ => z, aa, q4⟩
    · exact ⟨(HF.set hw q4).mono (fun k z => by unfold YF; omega) (Nat.le_refl _) (Nat.le_refl _), fun {i w} z h => am_set_k z (by omega), ad, am_set_at⟩
  obtain ⟨F0, kh, ad, qa⟩ := F0
  have kk : ∀ {i : Nat} {w : am_C}, h3.1 (x + 87 + i) = some w → 2 ≤ i → (mh (hr h3 (x + 87) m') (x + 87) g').1 (x + 87 + i) = some w := fun {i w} z h1 => am_set_k (am_set_k z (by omega)) (by omega)
  have q23 : h3.1 (x + 87 + 1) = some (.inl (0, 769, .inl a.m)) := kh q2 (by decide)
  have q13 : h3.1 (x + 87) = some (mcell (x + 87) g) := kh (i := 0) q1 (by decide)
  have F1 : HF (YF x) 0 0 h2 (hr h3 (x + 87) m') := HF.setP F0 q23 (by unfold YF; omega)
  exact ⟨⟨mmK, ⟨kp, kk (kh q3 (by decide)) (by decide), q3', q3''⟩, ⟨ad, kk qa (by decide)⟩, ⟨ac, kk (kh q5 (by decide)) (by decide), har _ q5'⟩, kk (kh q6 (by decide)) (by decide), ⟨fa, kk (kh q7 (by decide)) (by decide)⟩, ⟨f8, kk (kh q8 (by decide)) (by decide)⟩, ⟨f9, kk (kh q9 (by decide)) (by decide)⟩, ⟨f10, kk (kh q10 (by decide)) (by decide)⟩, k3.trans e3, k6, k8, k12, kz ez⟩, HF.setP F1 (am_set_k q13 (by omega)) (by unfold YF; omega)⟩
end
