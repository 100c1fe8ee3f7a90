/-! ACTS THROUGH HELPERS, on both sides -/
set_option maxRecDepth 100000
theorem LV.ag {m m' : Nat → Int32} (q : LV m) (h1 : m' 1 = m 1) (h2 : m' 2 = m 2) (ht : ∀ k, 369 ≤ k → m' k = m k) : LV m' := by
  have et : txF m' = txF m := by funext i; exact ht _ (by omega)
  have el : lwF m' = lwF m := lwF_congr h2 ht
  rcases q with q | ⟨q1, e, q2, q3, q4⟩
  · exact Or.inl (h1.trans q)
  · exact Or.inr ⟨by rw [h1]; exact q1, e, h2.trans q2, q3, by rw [et, el]; exact q4⟩
theorem RK.act {m m' : Nat → Int32} (q : RK m) (hP : nP m ≤ 6) (g : AGR m m') : RK m' := by
  obtain ⟨q1, q2, q3, q4⟩ := q
  obtain ⟨⟨h1, h2, ht⟩, hb⟩ := g
  have eP : nP m' = nP m := by unfold nP; rw [hb 3 (by omega)]
  refine ⟨q1.ag h1 h2 ht, fun z => ?_, ⟨by rw [hb 6 (by omega)]; exact q3.1, fun r hr => ?_⟩, fun k hk => (ht k (by omega)).trans (q4 k hk)⟩
  · rw [h1, lwF_congr h2 ht]; exact q2 (by rw [← h1]; exact z)
  · rw [eP] at hr
    rw [hb _ (by omega)]; exact q3.2 r hr
theorem remK_le {k : Nat} (hk : k ≤ 12) : remK k ≤ 12 := by unfold remK; split <;> omega
theorem remW_len {ws : List (Nat × (Nat → Int32))} {p : Nat × (Nat → Int32)} (hk : ws.length ≤ 12) : (remW ws ++ [p]).length = remK ws.length := by
  unfold remW remK
  rw [List.length_append]
  split
  · rename_i h; rw [List.length_tail, h]; rfl
  · rfl
theorem AR.rem {ac m : Nat → Int32} {ws : List (Nat × (Nat → Int32))} {ad : Nat} (q : AR ac ws) (hk : ws.length ≤ 12) : AR (remA m ac ws.length) (remW ws ++ [(ad, m)]) := by
  intro i hi k hkk
  have hl := remW_len (p := (ad, m)) hk
  rw [hl] at hi
  unfold remA
  unfold remK at hi
  by_cases c : ws.length = 12
  · rw [if_pos c] at hi ⊢
    have ew : remW ws = ws.tail := if_pos c
    have tl : ws.tail.length = 11 := by rw [List.length_tail, c]
    rw [cpN_at]
    by_cases d : i < 11
    · rw [if_neg (by omega), cpN_at, if_pos (by omega), show 369 + (369 * i + k - 0) = 369 * (i + 1) + k by omega, q (i + 1) (by omega) k hkk]
      congr 2
      simp only [ew]
      rw [List.getElem_append_left (by omega), List.getElem_tail]
    · have ei : i = 11 := by omega
      subst ei
      rw [if_pos (by omega), show 0 + (369 * 11 + k - 4059) = k by omega]
      simp only [ew]
      rw [List.getElem_append_right (by omega)]
      simp [tl]
  · rw [if_neg c] at hi ⊢
    have ew : remW ws = ws := if_neg c
    rw [cpN_at]
    by_cases d : i < ws.length
    · rw [if_neg (by omega), q i d k hkk]
      congr 2
      simp only [ew]
      rw [List.getElem_append_left d]
    · have ei : i = ws.length := by omega
      subst ei
      rw [if_pos (by omega), show 0 + (369 * ws.length + k - 369 * ws.length) = k by omega]
      simp only [ew]
      rw [List.getElem_append_right (Nat.le_refl _)]
      simp
section
variable {G : am_G} {bs x dx dy kX kY : Nat} {h : am_H} {a a' : AA} {AsX AsY : List Value}
/-- a call through a helper, what is then being known later -/
theorem op2B {B : AA → Prop} {Φ : Value → am_H → Prop} {Ψ : Nat → am_H → Prop} {cd : Nat → Int32} {r : Nat × Int32} (st : STA G bs x h a) (hX : Ev G dx kX AsX h (HO (x + 97) Φ Ψ cd)) (hok : ∀ n h1, Φ (.int n) h1 → r.1 = 0 ∧ n = r.2 ∧ ∃ a', B a' ∧ XS G bs x h a h1 a') (hno : ∀ c h1, Ψ c h1 → r.1 ≠ 0 ∧ cd c = nI r.1 ∧ ∃ a', B a' ∧ XS G bs x h a h1 a') (hr : r.1 < 1000) (hY : ∀ a', B a' → YP G bs x dy kY AsY a a' (nI r.1) r.2) : OP2 G bs x h a dx kX AsX dy kY AsY := by
  obtain ⟨S0, g0, lf0, gx0, sx0, sy0, o0⟩ := st
  have w0 := sx0.sys.1
  refine ev_mono hX ?_
  rintro v h' (⟨n, h1, lf, p1, p2, rfl, rfl⟩ | ⟨c, p1, rfl⟩)
  · obtain ⟨e1, rfl, a', hB, S, c, s, gx, sx, F, k1, k2⟩ := hok _ _ p1
    have hY := hY a' hB
    obtain ⟨g1, g2, g3, g4, g5⟩ := gx
    have F2 : HF (fun k => k = x + 97) 0 0 h1 (am_set h1 (x + 97) (lcell (vp_updL lf 0 r.2.toInt64))) := HF.set F.w p2
    have F3 : HF (fun k => XF bs x k ∨ k = x + 97) c s h (am_set h1 (x + 97) (lcell (vp_updL lf 0 r.2.toInt64))) := (HF.trans (F.mono (fun k z => Or.inl z) (Nat.le_refl _) (Nat.le_refl _)) (F2.mono (fun k z => Or.inr z) (Nat.le_refl _) (Nat.le_refl _))).mono (fun _ z => z) (Nat.le_refl _) (Nat.le_refl _)
    have sy1 : SYA x (am_set h1 (x + 97) (lcell (vp_updL lf 0 r.2.toInt64))) g0 a := SYg.keep sy0 F3 (fun k z => by rcases z with z | z; unfold XF at z; omega; omega)
    have sx1 : SXA G bs x S (am_set h1 (x + 97) (lcell (vp_updL lf 0 r.2.toInt64))) a' := sx.keep g1 g2 F2 (fun k z => by omega)
    have z5 := F2.z
    have gx1 : GX bs x S (am_set h1 (x + 97) (lcell (vp_updL lf 0 r.2.toInt64))) a' := ⟨g1, fun z sz => by have := g2 z sz; omega, by omega, g4, g5⟩
    refine ⟨0, rfl, ⟨⟨g0, sy1.1.1⟩, fun k e hk he => F3.k he (fun z => by rcases z with z | z; unfold XF at z; omega; omega)⟩, ⟨_, am_set_at⟩, ?_⟩
    refine ev_mono (hY _ S g0 gx1 sx1 sy1) ?_
    rintro u h2 ⟨⟨w, rfl, ew⟩, ⟨g', sy2, eg⟩, FY⟩
    rw [e1] at ew eg
    have ew := ew rfl
    subst ew
    exact ⟨_, rfl, fin_y (h1 := h1) gx1 sx1 am_set_at F3 k1 (by omega) sy2 FY, ⟨_, FY.k am_set_at (by unfold YF; omega), fun _ => vp_updL_0⟩, g', sy2.1.1, eg⟩
  · obtain ⟨e1, e2, a', hB, S, c', s, gx, sx, F, k1, k2⟩ := hno _ _ p1
    have hY := hY a' hB
    obtain ⟨g1, g2, g3, g4, g5⟩ := gx
    have sy1 : SYA x h' g0 a := SYg.keep sy0 F (fun k z => by unfold XF at z; omega)
    have o1 := F.k o0 (by unfold XF; omega)
    refine ⟨cd c, rfl, ⟨⟨g0, sy1.1.1⟩, fun k e hk he => F.k he (fun z => by unfold XF at z; omega)⟩, ⟨_, o1⟩, ?_⟩
    refine ev_mono (hY _ S g0 ⟨g1, g2, g3, g4, g5⟩ sx sy1) ?_
    rintro u h2 ⟨⟨w, rfl, ew⟩, ⟨g', sy2, eg⟩, FY⟩
    refine ⟨_, rfl, fin_y (h1 := h') ⟨g1, g2, g3, g4, g5⟩ sx o1 (F.mono (fun k z => Or.inl z) (Nat.le_refl _) (Nat.le_refl _)) k1 (by omega) sy2 FY, ⟨_, FY.k o1 (by unfold YF; omega), fun z => ?_⟩, g', sy2.1.1, eg.trans e2.symm⟩
    rw [e2] at z
    exact absurd (nI_inj (c := 0) (by omega) (by decide) z) e1
/-- what both hold after an act -/
def AB (r : Nat × Int32) (a : AA) (m' : Nat → Int32) (a' : AA) : Prop := (r.1 = 0 ∧ ∃ ad, a' = (m', a.mi, a.hi, remW a.ws ++ [(ad, a.m)], a.T, a.len, a.ft)) ∨ (r.1 ≠ 0 ∧ a' = a)
theorem rp1_97 {S : Nat → Prop} (gx : GX bs x S h a) : ¬ RP1 x S (x + 97) := fun z => by unfold RP1 HP InW RP at z; omega
/-- the system after an act -/
theorem xs_act {S : Nat → Prop} {l : Value} {m' : Nat → Int32} {h1 : am_H} (hP : nP a.m ≤ 6) (gx : GX bs x S h a) (X : OX G bs x S a.hi h a.mi a.T a.len a.ft) (p : XW G bs x S a.hi h l a.ws a.m m' h1) : ∃ ad, XS G bs x h a h1 (m', a.mi, a.hi, remW a.ws ++ [(ad, a.m)], a.T, a.len, a.ft) := by
  obtain ⟨ad, b', K1, W1, F, ag⟩ := p
  obtain ⟨gb, sg, hn, hl, rk⟩ := gx
  have z := F.z
  have nS : ∀ k, RP1 x S k → ¬ S k := fun k z sk => by
    have := (sg k sk).1
    rcases z with z | z | z
    · unfold HP InW at z; omega
    · omega
    · exact z.2 sk
  have hp : ∀ k, RP1 x S k → (x + 1 ≤ k ∧ k < x + 16) ∨ k = x + 48 ∨ k = x + 64 ∨ x + 98 ≤ k := fun k z => by unfold RP1 HP InW RP at z; omega
  refine ⟨ad, S, 20, 1600, ⟨gb, fun k sk => by have := sg k sk; omega, by omega, hl, rk.act hP ag⟩, ⟨b', l, K1, W1.ag ag.1.1 ag.1.2.1 ag.1.2.2, X.keep F (fun k z => ⟨by have := hp k z; unfold OF; omega, nS k z⟩)⟩, F.mono (fun k z => by have := hp k z; unfold XF; omega) (Nat.le_refl _) (Nat.le_refl _), ?_, ?_⟩
  · show 1600 + 5600 * a.len ≤ _; omega
  · show 20 + 35 * a.len ≤ _; omega
/-- the model after an act -/
theorem sy_act {h2 : am_H} {g ac m' : Nat → Int32} {ad : Nat} (sy : SYA x h2 g a) (hk : a.ws.length ≤ 12) (hw : HW h2) (qa : h2.1 (x + 87 + 4) = some (.inl (0, 4428, .inl ac))) (ar : AR ac a.ws) : SYA x (actH h2 (x + 87) g ac a.m m' a.ws.length) (actG g a.ws.length) (m', a.mi, a.hi, remW a.ws ++ [(ad, a.m)], a.T, a.len, a.ft) ∧ HF (YF x) 0 0 h2 (actH h2 (x + 87) g ac a.m m' a.ws.length) := by
  obtain ⟨⟨q1, q2⟩, ⟨kp, q3, q3', q3''⟩, ⟨aa, q4⟩, -, q6, ⟨fa, q7⟩, ⟨f8, q8⟩, ⟨f9, q9⟩, ⟨f10, q10⟩, e3, e6, e8, e12, ez⟩ := sy
  have k : ∀ {i : Nat} {e : am_C}, h2.1 (x + 87 + i) = some e → 2 ≤ i → i ≠ 4 → (actH h2 (x + 87) g ac a.m m' a.ws.length).1 (x + 87 + i) = some e := fun {i e} z h1 h4 => am_set_k (am_set_k (am_set_k (am_set_k z (by omega)) (by omega)) (by omega)) (by omega)
  have F1 : HF (YF x) 0 0 h2 (mh h2 (x + 87) (upd g 0 (nI 0))) := (HF.set hw q1).mono (fun k z => by unfold YF; omega) (Nat.le_refl _) (Nat.le_refl _)
  have F2 : HF (YF x) 0 0 h2 (am_set (mh h2 (x + 87) (upd g 0 (nI 0))) (x + 87 + 4) (.inl (0, 4428, .inl (remA a.m ac a.ws.length)))) := HF.setP F1 (am_set_k qa (by omega)) (by unfold YF; omega)
  have F3 : HF (YF x) 0 0 h2 (mh (am_set (mh h2 (x + 87) (upd g 0 (nI 0))) (x + 87 + 4) (.inl (0, 4428, .inl (remA a.m ac a.ws.length)))) (x + 87) (actG g a.ws.length)) := HF.setP F2 (am_set_k am_set_at (by omega)) (by unfold YF; omega)
  refine ⟨⟨actM ⟨q1, q2⟩, ⟨kp, k q3 (by decide) (by decide), q3', q3''⟩, ⟨aa, k q4 (by decide) (by decide)⟩, ⟨_, am_set_k (am_set_k am_set_at (by omega)) (by omega), ar.rem hk⟩, k q6 (by decide) (by decide), ⟨fa, k q7 (by decide) (by decide)⟩, ⟨f8, k q8 (by decide) (by decide)⟩, ⟨f9, k q9 (by decide) (by decide)⟩, ⟨f10, k q10 (by decide) (by decide)⟩, e3, ?_, e8, e12, ez⟩, HF.setP F3 (am_set_k (am_set_k (am_set_k q2 (by omega)) (by omega)) (by omega)) (by unfold YF; omega)⟩
  show nI (remK a.ws.length) = nI _
  rw [remW_len hk]
/-- the model after hours -/
theorem sy_pp {h2 h3 : am_H} {g g' m' : Nat → Int32} (sy : SYA x h2 g a) (mz : MZ G bs h3 (x + 87) g' m') (gk : gK g g') (f : HF (PP (x + 87)) 0 0 h2 h3) : SYA x h3 g' (m', a.mi, a.hi, a.ws, a.T, a.len, a.ft) := by
  obtain ⟨⟨q1, q2⟩, ⟨kp, q3, q3', q3''⟩, ⟨aa, q4⟩, ⟨ac, q5, q5'⟩, q6, -, ⟨f8, q8⟩, ⟨f9, q9⟩, ⟨f10, q10⟩, e3, e6, e8, e12, ez⟩ := sy
  obtain ⟨k0, k3, k6, k8, k12, kz⟩ := gk
  have no : ∀ k, x + 87 + 2 ≤ k → k ≠ x + 87 + 6 → ¬ PP (x + 87) k := fun k h1 h6 z => by unfold PP at z; omega
  exact ⟨mz.1, ⟨kp, f.k q3 (no _ (by omega) (by omega)), q3', q3''⟩, ⟨aa, f.k q4 (no _ (by omega) (by omega))⟩, ⟨ac, f.k q5 (no _ (by omega) (by omega)), q5'⟩, f.k q6 (no _ (by omega) (by omega)), mz.2.2.2.2.2, ⟨f8, f.k q8 (no _ (by omega) (by omega))⟩, ⟨f9, f.k q9 (no _ (by omega) (by omega))⟩, ⟨f10, f.k q10 (no _ (by omega) (by omega))⟩, k3.trans e3, k6.trans e6, k8.trans e8, k12.trans e12, kz ez⟩
theorem st_vr (st : STA G bs x h a) : VR a.m ∧ ∃ b, BY b a.m := by
  obtain ⟨S, g, lf, gx, ⟨b, l, ⟨q1, v, yb, -⟩, W, X⟩, sy, o97⟩ := st
  exact ⟨v, b, yb⟩
theorem st_lv (st : STA G bs x h a) : LV a.m := by
  obtain ⟨S, g, lf, gx, -⟩ := st
  exact gx.2.2.2.2.1
theorem st_ws (st : STA G bs x h a) : a.ws.length ≤ 12 := by
  obtain ⟨S, g, lf, gx, ⟨b, l, K, ⟨arr, -, h12, -⟩, X⟩, sy, o97⟩ := st
  exact h12
/-- the model's act -/
theorem yp_act {m' : Nat → Int32} {r : Nat × Int32} (v : VR a.m) (hk : a.ws.length ≤ 12) (hY : ∀ h2 g (mm : MM h2 (x + 87) g a.m) (ac : Nat → Int32) (k : Nat), h2.1 (x + 87 + 4) = some (.inl (0, 4428, .inl ac)) → g 6 = nI k → k ≤ 12 → Ac G dy kY AsY h2 (x + 87) g ac a.m m' k r) : ∀ a', AB r a m' a' → YP G bs x dy kY AsY a a' (nI r.1) r.2 := by
  intro a' hB h2 S g gx sx sy
  have hw := sx.sys.1
  have sy' := sy
  obtain ⟨mm, qk, as, ⟨ac, qa, ar⟩, tp, fa, f7, f8, f9, e3, e6, e8, e12, ez⟩ := sy'
  obtain ⟨n, R, e, er⟩ := hY h2 g mm ac _ qa e6 hk
  subst er
  rcases hB with ⟨e1, ad, rfl⟩ | ⟨e1, rfl⟩
  · rw [if_pos e1] at e
    obtain ⟨s1, s2⟩ := sy_act sy (ad := ad) (m' := m') hk hw qa ar
    refine ⟨n, _, e, _, _, rfl, ⟨_, rfl, fun _ => rfl⟩, ⟨_, s1, ?_⟩, s2⟩
    rw [e1]; rfl
  · rw [if_neg e1] at e
    exact ⟨n, _, e, _, _, rfl, ⟨_, rfl, fun _ => rfl⟩, ⟨_, SYg.num sy rfl rfl rfl rfl id, upd_eq⟩, (HF.set hw mm.1).mono (fun k z => by unfold YF; omega) (Nat.le_refl _) (Nat.le_refl _)⟩

theorem o_goal (st : STA G bs x h a) (p t : Int32) : OP2 G bs x h a 13 m_X0_goal [.ref x, .int p, .int t, .ref (x + 97)] 4 m_X6_goal [.ref (x + 87), .int p, .int t] := by
  have st0 := st
  obtain ⟨S, g, lf, gx, ⟨b, l, K, W, X⟩, sy, o97⟩ := st
  have o := K.2.2.2.2.2.2.1
  have lb : LB a.m := gx.2.2.2.2.2.2.1
  have hq : (qGoal a.m p t).1 = 0 ∨ (qGoal a.m p t).1 = 1 := by unfold qGoal; (repeat' split) <;> simp
  refine op2B (B := AB (qGoal a.m p t) a (gRow a.m p t)) (r := qGoal a.m p t) st0 (h_goal (c_xGoal K gx.1 gx.2.1 gx.2.2.1 W lb p t) (by decide) o (fun v1 h1 p => ?_) (fun c h1 p => ?_)) (fun n1 h1 p => ?_) (fun c h1 p => ?_) (by omega) ?_
  · obtain ⟨-, rfl, ad, b', -, -, F, -⟩ := p
    exact ⟨_, _, rfl, F.k o97 (rp1_97 gx)⟩
  · obtain ⟨h1, rfl, -⟩ := p
    rcases hq with e | e
    · exact absurd e h1
    · rw [e]; decide
  · obtain ⟨e1, e2, XWp⟩ := p
    cases e2
    obtain ⟨ad, xs⟩ := xs_act K.2.1.pp.2 gx X XWp
    exact ⟨e1, rfl, _, Or.inl ⟨e1, ad, rfl⟩, xs⟩
  · obtain ⟨h1, rfl, rfl⟩ := p
    refine ⟨h1, ?_, a, Or.inr ⟨h1, rfl⟩, xs_skip gx ⟨b, l, K, W, X⟩ (Nat.le_refl _)⟩
    rcases hq with e | e <;> rw [e] <;> first | exact absurd e h1 | rfl
  · exact yp_act K.2.1 (st_ws st0) (fun h2 g mm ac k qa e6 hk => c_yGoal mm K.2.1 qa e6 hk p t)
theorem o_rest (st : STA G bs x h a) (p : Int32) : OP2 G bs x h a 13 m_X0_rest [.ref x, .int p, .ref (x + 97)] 4 m_X6_rest [.ref (x + 87), .int p] := by
  have st0 := st
  obtain ⟨S, g, lf, gx, ⟨b, l, K, W, X⟩, sy, o97⟩ := st
  have o := K.2.2.2.2.2.2.1
  have lb : LB a.m := gx.2.2.2.2.2.2.1
  have hq : (qRest a.m p).1 = 0 ∨ (qRest a.m p).1 = 1 := by unfold qRest; (repeat' split) <;> simp
  refine op2B (B := AB (qRest a.m p) a (rRow a.m p)) (r := qRest a.m p) st0 (h_rest (c_xRest K gx.1 gx.2.1 gx.2.2.1 W lb p) (by decide) o (fun v1 h1 p => ?_) (fun c h1 p => ?_)) (fun n1 h1 p => ?_) (fun c h1 p => ?_) (by omega) ?_
  · obtain ⟨-, rfl, ad, b', -, -, F, -⟩ := p
    exact ⟨_, _, rfl, F.k o97 (rp1_97 gx)⟩
  · obtain ⟨h1, rfl, -⟩ := p
    rcases hq with e | e
    · exact absurd e h1
    · rw [e]; decide
  · obtain ⟨e1, e2, XWp⟩ := p
    cases e2
    obtain ⟨ad, xs⟩ := xs_act K.2.1.pp.2 gx X XWp
    exact ⟨e1, rfl, _, Or.inl ⟨e1, ad, rfl⟩, xs⟩
  · obtain ⟨h1, rfl, rfl⟩ := p
    refine ⟨h1, ?_, a, Or.inr ⟨h1, rfl⟩, xs_skip gx ⟨b, l, K, W, X⟩ (Nat.le_refl _)⟩
    rcases hq with e | e <;> rw [e] <;> first | exact absurd e h1 | rfl
  · exact yp_act K.2.1 (st_ws st0) (fun h2 g mm ac k qa e6 hk => c_yRest mm K.2.1 qa e6 hk p)
theorem o_lend (st : STA G bs x h a) (c p w : Int32) : OP2 G bs x h a 13 m_X0_lend [.ref x, .int c, .int p, .int w, .ref (x + 97)] 4 m_X6_lend [.ref (x + 87), .int c, .int p, .int w] := by
  have st0 := st
  obtain ⟨S, g, lf, gx, ⟨b, l, K, W, X⟩, sy, o97⟩ := st
  have o := K.2.2.2.2.2.2.1
  have lb : LB a.m := gx.2.2.2.2.2.2.1
  have hq : (qLend a.m c p w).1 = 0 ∨ (qLend a.m c p w).1 = 1 ∨ (qLend a.m c p w).1 = 2 ∨ (qLend a.m c p w).1 = 3 := by unfold qLend; (repeat' split) <;> simp
  refine op2B (B := AB (qLend a.m c p w) a (lendR a.m c.toNatClampNeg p.toNatClampNeg w)) (r := qLend a.m c p w) st0 (h_lend (c_xLend K gx.1 gx.2.1 gx.2.2.1 W lb c p w) (by decide) o (fun v1 h1 p => ?_) (fun c h1 p => ?_)) (fun n1 h1 p => ?_) (fun c h1 p => ?_) (by omega) ?_
  · obtain ⟨-, rfl, ad, b', -, -, F, -⟩ := p
    exact ⟨_, _, rfl, F.k o97 (rp1_97 gx)⟩
  · obtain ⟨h1, rfl, -⟩ := p
    rcases hq with e | e | e | e
    · exact absurd e h1
    · rw [e]; decide
    · rw [e]; decide
    · rw [e]; decide
  · obtain ⟨e1, e2, XWp⟩ := p
    cases e2
    obtain ⟨ad, xs⟩ := xs_act K.2.1.pp.2 gx X XWp
    exact ⟨e1, rfl, _, Or.inl ⟨e1, ad, rfl⟩, xs⟩
  · obtain ⟨h1, rfl, rfl⟩ := p
    refine ⟨h1, ?_, a, Or.inr ⟨h1, rfl⟩, xs_skip gx ⟨b, l, K, W, X⟩ (Nat.le_refl _)⟩
    rcases hq with e | e | e | e <;> rw [e] <;> first | exact absurd e h1 | rfl
  · exact yp_act K.2.1 (st_ws st0) (fun h2 g mm ac k qa e6 hk => c_yLend mm K.2.1 qa e6 hk c p w)
theorem o_pay (st : STA G bs x h a) (z : Int32) : OP2 G bs x h a 13 m_X0_pay [.ref x, .int z, .ref (x + 97)] 4 m_X6_pay [.ref (x + 87), .int z] := by
  have st0 := st
  obtain ⟨S, g, lf, gx, ⟨b, l, K, W, X⟩, sy, o97⟩ := st
  have o := K.2.2.2.2.2.2.1
  have lb : LB a.m := gx.2.2.2.2.2.2.1
  have hq : (qPay a.m z).1 = 0 ∨ (qPay a.m z).1 = 1 ∨ (qPay a.m z).1 = 2 := by unfold qPay; (repeat' split) <;> simp
  refine op2B (B := AB (qPay a.m z) a (payR a.m z.toNatClampNeg)) (r := qPay a.m z) st0 (h_pay (c_xPay K gx.1 gx.2.1 gx.2.2.1 W lb z) (by decide) o (fun v1 h1 p => ?_) (fun c h1 p => ?_)) (fun n1 h1 p => ?_) (fun c h1 p => ?_) (by omega) ?_
  · obtain ⟨-, rfl, ad, b', -, -, F, -⟩ := p
    exact ⟨_, _, rfl, F.k o97 (rp1_97 gx)⟩
  · obtain ⟨h1, rfl, -⟩ := p
    rcases hq with e | e | e
    · exact absurd e h1
    · rw [e]; decide
    · rw [e]; decide
  · obtain ⟨e1, e2, XWp⟩ := p
    cases e2
    obtain ⟨ad, xs⟩ := xs_act K.2.1.pp.2 gx X XWp
    exact ⟨e1, rfl, _, Or.inl ⟨e1, ad, rfl⟩, xs⟩
  · obtain ⟨h1, rfl, rfl⟩ := p
    refine ⟨h1, ?_, a, Or.inr ⟨h1, rfl⟩, xs_skip gx ⟨b, l, K, W, X⟩ (Nat.le_refl _)⟩
    rcases hq with e | e | e <;> rw [e] <;> first | exact absurd e h1 | rfl
  · exact yp_act K.2.1 (st_ws st0) (fun h2 g mm ac k qa e6 hk => c_yPay mm K.2.1 qa e6 hk z)
theorem o_split (st : STA G bs x h a) (z : Int32) : OP2 G bs x h a 13 m_X0_split [.ref x, .int z, .ref (x + 97)] 4 m_X6_split [.ref (x + 87), .int z] := by
  have st0 := st
  obtain ⟨S, g, lf, gx, ⟨b, l, K, W, X⟩, sy, o97⟩ := st
  have o := K.2.2.2.2.2.2.1
  have lb : LB a.m := gx.2.2.2.2.2.2.1
  have hq : (qSplit a.m z).1 = 0 ∨ (qSplit a.m z).1 = 1 ∨ (qSplit a.m z).1 = 2 := by unfold qSplit; (repeat' split) <;> simp
  refine op2B (B := AB (qSplit a.m z) a (splR a.m z.toNatClampNeg)) (r := qSplit a.m z) st0 (h_split (c_xSplit K gx.1 gx.2.1 gx.2.2.1 W lb z) (by decide) o (fun v1 h1 p => ?_) (fun c h1 p => ?_)) (fun n1 h1 p => ?_) (fun c h1 p => ?_) (by omega) ?_
  · obtain ⟨-, rfl, ad, b', -, -, F, -⟩ := p
    exact ⟨_, _, rfl, F.k o97 (rp1_97 gx)⟩
  · obtain ⟨h1, rfl, -⟩ := p
    rcases hq with e | e | e
    · exact absurd e h1
    · rw [e]; decide
    · rw [e]; decide
  · obtain ⟨e1, e2, XWp⟩ := p
    cases e2
    obtain ⟨ad, xs⟩ := xs_act K.2.1.pp.2 gx X XWp
    exact ⟨e1, rfl, _, Or.inl ⟨e1, ad, rfl⟩, xs⟩
  · obtain ⟨h1, rfl, rfl⟩ := p
    refine ⟨h1, ?_, a, Or.inr ⟨h1, rfl⟩, xs_skip gx ⟨b, l, K, W, X⟩ (Nat.le_refl _)⟩
    rcases hq with e | e | e <;> rw [e] <;> first | exact absurd e h1 | rfl
  · exact yp_act K.2.1 (st_ws st0) (fun h2 g mm ac k qa e6 hk => c_ySplit mm K.2.1 qa e6 hk z)
theorem o_pass (st : STA G bs x h a) (z p : Int32) : OP2 G bs x h a 13 m_X0_pass [.ref x, .int z, .int p, .ref (x + 97)] 4 m_X6_pass [.ref (x + 87), .int z, .int p] := by
  have st0 := st
  obtain ⟨S, g, lf, gx, ⟨b, l, K, W, X⟩, sy, o97⟩ := st
  have o := K.2.2.2.2.2.2.1
  have lb : LB a.m := gx.2.2.2.2.2.2.1
  have hq : (qPass a.m z p).1 = 0 ∨ (qPass a.m z p).1 = 1 ∨ (qPass a.m z p).1 = 2 ∨ (qPass a.m z p).1 = 3 := by unfold qPass; (repeat' split) <;> simp
  refine op2B (B := AB (qPass a.m z p) a (passR a.m z.toNatClampNeg p)) (r := qPass a.m z p) st0 (h_pass (c_xPass K gx.1 gx.2.1 gx.2.2.1 W lb z p) (by decide) o (fun v1 h1 p => ?_) (fun c h1 p => ?_)) (fun n1 h1 p => ?_) (fun c h1 p => ?_) (by omega) ?_
  · obtain ⟨-, rfl, ad, b', -, -, F, -⟩ := p
    exact ⟨_, _, rfl, F.k o97 (rp1_97 gx)⟩
  · obtain ⟨h1, rfl, -⟩ := p
    rcases hq with e | e | e | e
    · exact absurd e h1
    · rw [e]; decide
    · rw [e]; decide
    · rw [e]; decide
  · obtain ⟨e1, e2, XWp⟩ := p
    cases e2
    obtain ⟨ad, xs⟩ := xs_act K.2.1.pp.2 gx X XWp
    exact ⟨e1, rfl, _, Or.inl ⟨e1, ad, rfl⟩, xs⟩
  · obtain ⟨h1, rfl, rfl⟩ := p
    refine ⟨h1, ?_, a, Or.inr ⟨h1, rfl⟩, xs_skip gx ⟨b, l, K, W, X⟩ (Nat.le_refl _)⟩
    rcases hq with e | e | e | e <;> rw [e] <;> first | exact absurd e h1 | rfl
  · exact yp_act K.2.1 (st_ws st0) (fun h2 g mm ac k qa e6 hk => c_yPass mm K.2.1 qa e6 hk z p)
theorem o_lay (st : STA G bs x h a) (z : Int32) : OP2 G bs x h a 13 m_X0_lay [.ref x, .int z, .ref (x + 97)] 4 m_X6_lay [.ref (x + 87), .int z] := by
  have st0 := st
  obtain ⟨S, g, lf, gx, ⟨b, l, K, W, X⟩, sy, o97⟩ := st
  have o := K.2.2.2.2.2.2.1
  have lb : LB a.m := gx.2.2.2.2.2.2.1
  have hq : (qLay a.m z).1 = 0 ∨ (qLay a.m z).1 = 1 ∨ (qLay a.m z).1 = 2 := by unfold qLay; (repeat' split) <;> simp
  refine op2B (B := AB (qLay a.m z) a (layR a.m z.toNatClampNeg (bpF a.m z.toNatClampNeg))) (r := qLay a.m z) st0 (h_lay (c_xLay K gx.1 gx.2.1 gx.2.2.1 W lb z) (by decide) o (fun v1 h1 p => ?_) (fun c h1 p => ?_)) (fun n1 h1 p => ?_) (fun c h1 p => ?_) (by omega) ?_
  · obtain ⟨-, rfl, ad, b', -, -, F, -⟩ := p
    exact ⟨_, _, rfl, F.k o97 (rp1_97 gx)⟩
  · obtain ⟨h1, rfl, -⟩ := p
    rcases hq with e | e | e
    · exact absurd e h1
    · rw [e]; decide
    · rw [e]; decide
  · obtain ⟨e1, e2, XWp⟩ := p
    cases e2
    obtain ⟨ad, xs⟩ := xs_act K.2.1.pp.2 gx X XWp
    exact ⟨e1, rfl, _, Or.inl ⟨e1, ad, rfl⟩, xs⟩
  · obtain ⟨h1, rfl, rfl⟩ := p
    refine ⟨h1, ?_, a, Or.inr ⟨h1, rfl⟩, xs_skip gx ⟨b, l, K, W, X⟩ (Nat.le_refl _)⟩
    rcases hq with e | e | e <;> rw [e] <;> first | exact absurd e h1 | rfl
  · exact yp_act K.2.1 (st_ws st0) (fun h2 g mm ac k qa e6 hk => c_yLay mm K.2.1 qa e6 hk z)
theorem o_lift (st : STA G bs x h a) (z p : Int32) : OP2 G bs x h a 13 m_X0_lift [.ref x, .int z, .int p, .ref (x + 97)] 4 m_X6_lift [.ref (x + 87), .int z, .int p] := by
  have st0 := st
  obtain ⟨S, g, lf, gx, ⟨b, l, K, W, X⟩, sy, o97⟩ := st
  have o := K.2.2.2.2.2.2.1
  have lb : LB a.m := gx.2.2.2.2.2.2.1
  have hq : (qLift a.m z p).1 = 0 ∨ (qLift a.m z p).1 = 1 ∨ (qLift a.m z p).1 = 2 := by unfold qLift; (repeat' split) <;> simp
  refine op2B (B := AB (qLift a.m z p) a (liftR a.m z.toNatClampNeg p)) (r := qLift a.m z p) st0 (h_lift (c_xLift K gx.1 gx.2.1 gx.2.2.1 W lb z p) (by decide) o (fun v1 h1 p => ?_) (fun c h1 p => ?_)) (fun n1 h1 p => ?_) (fun c h1 p => ?_) (by omega) ?_
  · obtain ⟨-, rfl, ad, b', -, -, F, -⟩ := p
    exact ⟨_, _, rfl, F.k o97 (rp1_97 gx)⟩
  · obtain ⟨h1, rfl, -⟩ := p
    rcases hq with e | e | e
    · exact absurd e h1
    · rw [e]; decide
    · rw [e]; decide
  · obtain ⟨e1, e2, XWp⟩ := p
    cases e2
    obtain ⟨ad, xs⟩ := xs_act K.2.1.pp.2 gx X XWp
    exact ⟨e1, rfl, _, Or.inl ⟨e1, ad, rfl⟩, xs⟩
  · obtain ⟨h1, rfl, rfl⟩ := p
    refine ⟨h1, ?_, a, Or.inr ⟨h1, rfl⟩, xs_skip gx ⟨b, l, K, W, X⟩ (Nat.le_refl _)⟩
    rcases hq with e | e | e <;> rw [e] <;> first | exact absurd e h1 | rfl
  · exact yp_act K.2.1 (st_ws st0) (fun h2 g mm ac k qa e6 hk => c_yLift mm K.2.1 qa e6 hk z p)
theorem o_hours (st : STA G bs x h a) (n : Int32) : OP2 G bs x h a 49 m_X0_hours [.ref x, .int n, .ref (x + 97)] 40 m_X6_hours [.ref (x + 87), .int n] := by
  have st0 := st
  obtain ⟨S, g, lf, gx, ⟨b, l, K, W, X⟩, sy, o97⟩ := st
  have o := K.2.2.2.2.2.2.1
  have lb : LB a.m := gx.2.2.2.2.2.2.1
  have hq : (qHours a.m n).1 = 0 ∨ (qHours a.m n).1 = 1 := by unfold qHours; (repeat' split) <;> simp
  refine op2B (B := AB (qHours a.m n) a ((hourN true a.m n.toNatClampNeg).2)) (r := qHours a.m n) st0 (h_hours (c_xHours K gx.1 gx.2.1 gx.2.2.1 W lb n) (by decide) o (fun v1 h1 p => ?_) (fun c h1 p => ?_)) (fun n1 h1 p => ?_) (fun c h1 p => ?_) (by omega) ?_
  · obtain ⟨-, rfl, ad, b', -, -, F, -⟩ := p
    exact ⟨_, _, rfl, F.k o97 (rp1_97 gx)⟩
  · obtain ⟨h1, rfl, -⟩ := p
    rcases hq with e | e
    · exact absurd e h1
    · rw [e]; decide
  · obtain ⟨e1, e2, XWp⟩ := p
    cases e2
    obtain ⟨ad, xs⟩ := xs_act K.2.1.pp.2 gx X XWp
    exact ⟨e1, rfl, _, Or.inl ⟨e1, ad, rfl⟩, xs⟩
  · obtain ⟨h1, rfl, rfl⟩ := p
    refine ⟨h1, ?_, a, Or.inr ⟨h1, rfl⟩, xs_skip gx ⟨b, l, K, W, X⟩ (Nat.le_refl _)⟩
    rcases hq with e | e <;> rw [e] <;> first | exact absurd e h1 | rfl
  · intro a' hB h2 S g gx sx sy
    have sx' := sx
    obtain ⟨b, l, ⟨q1, v', yb', q4, q5, q6, o, q8⟩, W, X⟩ := sx
    have sy' := sy
    obtain ⟨mm, qk, as, ⟨ac, qa, ar⟩, tp, fa, f7, f8, f9, e3, e6, e8, e12, ez⟩ := sy'
    obtain ⟨v, yb⟩ : VR a.m ∧ ∃ b, BY b a.m := st_vr st0
    obtain ⟨b0, yb⟩ := yb
    have lv : LV a.m := st_lv st0
    have hk : a.ws.length ≤ 12 := st_ws st0
    have mz : MZ G bs h2 (x + 87) g a.m := ⟨mm, q5, q6, by have := gx.1; omega, ⟨_, tp⟩, fa⟩
    refine ev_mono (c_yHours mz v yb lv qa e6 hk n) ?_
    rintro u h3 ⟨rfl, ck⟩
    refine ⟨⟨_, rfl, fun _ => rfl⟩, ?_⟩
    rcases hB with ⟨e1, ad, rfl⟩ | ⟨e1, rfl⟩
    · rw [if_pos e1] at ck
      rw [e1]
      have s1 := sy_act sy (ad := ad) (m' := a.m) hk mz.2.1 qa ar
      obtain ⟨g', mz', v2, y2, l2, gk, F⟩ := ck
      have F0 := s1.2
      refine ⟨⟨g', ?_, gk.1⟩, (HF.trans F0 (F.mono (fun k z => by unfold PP at z; unfold YF; omega) (Nat.le_refl _) (Nat.le_refl _))).mono (fun _ z => z) (Nat.le_refl _) (Nat.le_refl _)⟩
      exact sy_pp s1.1 mz' gk F
    · rw [if_neg e1] at ck
      subst ck
      exact ⟨⟨_, SYg.num sy rfl rfl rfl rfl id, upd_eq⟩, (HF.set q5 mm.1).mono (fun k z => by unfold YF; omega) (Nat.le_refl _) (Nat.le_refl _)⟩
end
