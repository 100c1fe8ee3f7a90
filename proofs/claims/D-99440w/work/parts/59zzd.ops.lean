/-! A CALL ON BOTH SIDES -/
set_option maxRecDepth 100000
/-- what both hold: the row, the image's, whether there is one, remembered rows, the tape, how long, the fault -/
abbrev AA : Type := (Nat → Int32) × (Nat → Int32) × Bool × List (Nat × (Nat → Int32)) × (Nat → Int32) × Nat × Int32
abbrev AA.m (a : AA) : Nat → Int32 := a.1
abbrev AA.mi (a : AA) : Nat → Int32 := a.2.1
abbrev AA.hi (a : AA) : Bool := a.2.2.1
abbrev AA.ws (a : AA) : List (Nat × (Nat → Int32)) := a.2.2.2.1
abbrev AA.T (a : AA) : Nat → Int32 := a.2.2.2.2.1
abbrev AA.len (a : AA) : Nat := a.2.2.2.2.2.1
abbrev AA.ft (a : AA) : Int32 := a.2.2.2.2.2.2
abbrev SXA (G : am_G) (bs x : Nat) (S : Nat → Prop) (h : am_H) (a : AA) : Prop := SX G bs x S h a.m a.mi a.hi a.ws a.T a.len a.ft
abbrev SYA (x : Nat) (h : am_H) (g : Nat → Int32) (a : AA) : Prop := SYg (x + 87) h g a.m a.mi a.hi a.ws a.T a.len a.ft
/-- where the system lies -/
def GX (bs x : Nat) (S : Nat → Prop) (h : am_H) (a : AA) : Prop := bs ≤ x ∧ SG bs x S h ∧ x + 98 ≤ h.2.1 ∧ a.len ≤ 400 ∧ RK a.m
def STA (G : am_G) (bs x : Nat) (h : am_H) (a : AA) : Prop := ∃ S g lf, GX bs x S h a ∧ SXA G bs x S h a ∧ SYA x h g a ∧ h.1 (x + 97) = some (lcell lf)
/-- what the system may write -/
def XF (bs x : Nat) : Nat → Prop := fun a => bs ≤ a ∧ (a < x + 87 ∨ x + 98 ≤ a)
/-- what the model may write -/
def YF (x : Nat) : Nat → Prop := fun a => x + 87 ≤ a ∧ a < x + 97
/-- the system after its call -/
def XS (G : am_G) (bs x : Nat) (h : am_H) (a : AA) (h1 : am_H) (a' : AA) : Prop := ∃ S c s, GX bs x S h1 a' ∧ SXA G bs x S h1 a' ∧ HF (XF bs x) c s h h1 ∧ s + 5600 * a'.len ≤ 5600 * a.len + 112006 ∧ c + 35 * a'.len ≤ 35 * a.len + 999
/-- both after a call -/
def FIN (G : am_G) (bs x : Nat) (h : am_H) (a : AA) (h2 : am_H) : Prop := ∃ a', STA G bs x h2 a' ∧ h2.2.2 + 5600 * a'.len ≤ h.2.2 + 5600 * a.len + 112006 ∧ h2.2.1 + 35 * a'.len ≤ h.2.1 + 35 * a.len + 1000 ∧ ∀ k e, k < bs → h.1 k = some e → h2.1 k = some e
def CY (bs x : Nat) (h h1 : am_H) : Prop := (∃ g, h1.1 (x + 87) = some (mcell (x + 87) g)) ∧ ∀ k e, k < bs → h.1 k = some e → h1.1 k = some e
section
variable {G : am_G} {bs x dx dy kX kY : Nat} {h : am_H} {a a' : AA} {AsX AsY : List Value}
theorem vp_updL_0 {f : Nat → Int64} {v : Int64} : vp_updL f 0 v 0 = v := if_pos rfl
/-- the model's part: from the system's state -/
abbrev YP (G : am_G) (bs x dy kY : Nat) (AsY : List Value) (a a' : AA) (code w : Int32) : Prop := ∀ h2 S g, GX bs x S h2 a' → SXA G bs x S h2 a' → SYA x h2 g a → Ev G dy kY AsY h2 (fun v h3 => (∃ u, v = .int u ∧ (code = 0 → u = w)) ∧ (∃ g', SYA x h3 g' a' ∧ g' 0 = code) ∧ HF (YF x) 0 0 h2 h3)
theorem SXA.sys {S : Nat → Prop} (q : SXA G bs x S h a) : HW h ∧ OG G bs h := by
  obtain ⟨b, l, ⟨-, -, -, -, q5, q6, -⟩, -⟩ := q
  exact ⟨q5, q6⟩
theorem fin_y {h1 h2 h3 : am_H} {S : Nat → Prop} {c s : Nat} {lf : Nat → Int64} {g : Nat → Int32} (gx : GX bs x S h2 a') (sx : SXA G bs x S h2 a') (o : h2.1 (x + 97) = some (lcell lf)) (F : HF (fun k => XF bs x k ∨ k = x + 97) c s h h2) (k1 : s + 5600 * a'.len ≤ 5600 * a.len + 112006) (k2 : c + 35 * a'.len ≤ 35 * a.len + 1000) (sy : SYA x h3 g a') (F2 : HF (YF x) 0 0 h2 h3) : FIN G bs x h a h3 := by
  obtain ⟨g1, g2, g3, g4, g5⟩ := gx
  have z2 := F.2.2.2.2; have z1 := F.2.2.1.2; have z4 := F2.2.2.2.2; have z3 := F2.2.2.1.2
  have z5 := F2.z
  refine ⟨a', ⟨S, g, lf, ⟨g1, fun z sz => by have := g2 z sz; omega, by omega, g4, g5⟩, sx.keep g1 g2 F2 (fun k z => by unfold YF at z; omega), sy, F2.k o (by unfold YF; omega)⟩, by omega, by omega, fun k e hk he => F2.k (F.k he (fun z => ?_)) (fun z => ?_)⟩
  · rcases z with z | z
    · unfold XF at z; omega
    · omega
  · unfold YF at z; omega
/-- a call through a helper -/
theorem op2R {Φ : Value → am_H → Prop} {Ψ : Nat → am_H → Prop} {cd : Nat → Int32} {r : Nat × Int32} (st : STA G bs x h a) (hX : Ev G dx kX AsX h (HO (x + 97) Φ Ψ cd)) (hok : ∀ n h1, Φ (.int n) h1 → r.1 = 0 ∧ n = r.2 ∧ XS G bs x h a h1 a') (hno : ∀ c h1, Ψ c h1 → r.1 ≠ 0 ∧ cd c = nI r.1 ∧ XS G bs x h a h1 a') (hr : r.1 < 1000) (hY : YP G bs x dy kY AsY a a' (nI r.1) r.2) : Ev G dx kX AsX h (fun v h1 => ∃ code, v = .int code ∧ CY bs x h h1 ∧ (∃ lf, h1.1 (x + 97) = some (lcell lf)) ∧ Ev G dy kY AsY h1 (fun u h2 => ∃ w, u = .int w ∧ FIN G bs x h a h2 ∧ (∃ lf, h2.1 (x + 97) = some (lcell lf) ∧ (code = 0 → lf 0 = w.toInt64 ∧ w = r.2)) ∧ ∃ g, h2.1 (x + 87) = some (mcell (x + 87) g) ∧ g 0 = code)) := by
  obtain ⟨S0, g0, lf0, gx0, sx0, sy0, o0⟩ := st
  have w0 := sx0.sys.1
  refine ev_mono hX ?_
  rintro v h' (⟨n, h1, lf, p1, p2, rfl, rfl⟩ | ⟨c, p1, rfl⟩)
  · obtain ⟨e1, rfl, S, c, s, gx, sx, F, k1, k2⟩ := hok _ _ p1
    obtain ⟨g1, g2, g3, g4, g5⟩ := gx
    have F2 : HF (fun k => k = x + 97) 0 0 h1 (am_set h1 (x + 97) (lcell (vp_updL lf 0 r.2.toInt64))) := HF.set F.w p2
    have F3 : HF (fun k => XF bs x k ∨ k = x + 97) c s h (am_set h1 (x + 97) (lcell (vp_updL lf 0 r.2.toInt64))) := (HF.trans (F.mono (fun k z => Or.inl z) (Nat.le_refl _) (Nat.le_refl _)) (F2.mono (fun k z => Or.inr z) (Nat.le_refl _) (Nat.le_refl _))).mono (fun _ z => z) (Nat.le_refl _) (Nat.le_refl _)
    have sy1 : SYA x (am_set h1 (x + 97) (lcell (vp_updL lf 0 r.2.toInt64))) g0 a := SYg.keep sy0 F3 (fun k z => by rcases z with z | z; unfold XF at z; omega; omega)
    have sx1 : SXA G bs x S (am_set h1 (x + 97) (lcell (vp_updL lf 0 r.2.toInt64))) a' := sx.keep g1 g2 F2 (fun k z => by omega)
    have z5 := F2.z
    have gx1 : GX bs x S (am_set h1 (x + 97) (lcell (vp_updL lf 0 r.2.toInt64))) a' := ⟨g1, fun z sz => by have := g2 z sz; omega, by omega, g4, g5⟩
    refine ⟨0, rfl, ⟨⟨g0, sy1.1.1⟩, fun k e hk he => F3.k he (fun z => by rcases z with z | z; unfold XF at z; omega; omega)⟩, ⟨_, am_set_at⟩, ?_⟩
    refine ev_mono (hY _ S g0 gx1 sx1 sy1) ?_
    rintro u h2 ⟨⟨w, rfl, ew⟩, ⟨g', sy2, eg⟩, FY⟩
    rw [e1] at ew eg
    have ew := ew rfl
    subst ew
    exact ⟨_, rfl, fin_y (h1 := h1) gx1 sx1 am_set_at F3 k1 (by omega) sy2 FY, ⟨_, FY.k am_set_at (by unfold YF; omega), fun _ => ⟨vp_updL_0, rfl⟩⟩, g', sy2.1.1, eg⟩
  · obtain ⟨e1, e2, S, c', s, gx, sx, F, k1, k2⟩ := hno _ _ p1
    obtain ⟨g1, g2, g3, g4, g5⟩ := gx
    have sy1 : SYA x h' g0 a := SYg.keep sy0 F (fun k z => by unfold XF at z; omega)
    have o1 := F.k o0 (by unfold XF; omega)
    refine ⟨cd c, rfl, ⟨⟨g0, sy1.1.1⟩, fun k e hk he => F.k he (fun z => by unfold XF at z; omega)⟩, ⟨_, o1⟩, ?_⟩
    refine ev_mono (hY _ S g0 ⟨g1, g2, g3, g4, g5⟩ sx sy1) ?_
    rintro u h2 ⟨⟨w, rfl, ew⟩, ⟨g', sy2, eg⟩, FY⟩
    refine ⟨_, rfl, fin_y (h1 := h') ⟨g1, g2, g3, g4, g5⟩ sx o1 (F.mono (fun k z => Or.inl z) (Nat.le_refl _) (Nat.le_refl _)) k1 (by omega) sy2 FY, ⟨_, FY.k o1 (by unfold YF; omega), fun z => ?_⟩, g', sy2.1.1, eg.trans e2.symm⟩
    rw [e2] at z
    exact absurd (nI_inj (c := 0) (by omega) (by decide) z) e1
theorem op2 {Φ : Value → am_H → Prop} {Ψ : Nat → am_H → Prop} {cd : Nat → Int32} {r : Nat × Int32} (st : STA G bs x h a) (hX : Ev G dx kX AsX h (HO (x + 97) Φ Ψ cd)) (hok : ∀ n h1, Φ (.int n) h1 → r.1 = 0 ∧ n = r.2 ∧ XS G bs x h a h1 a') (hno : ∀ c h1, Ψ c h1 → r.1 ≠ 0 ∧ cd c = nI r.1 ∧ XS G bs x h a h1 a') (hr : r.1 < 1000) (hY : YP G bs x dy kY AsY a a' (nI r.1) r.2) : Ev G dx kX AsX h (fun v h1 => ∃ code, v = .int code ∧ CY bs x h h1 ∧ (∃ lf, h1.1 (x + 97) = some (lcell lf)) ∧ Ev G dy kY AsY h1 (fun u h2 => ∃ w, u = .int w ∧ FIN G bs x h a h2 ∧ (∃ lf, h2.1 (x + 97) = some (lcell lf) ∧ (code = 0 → lf 0 = w.toInt64)) ∧ ∃ g, h2.1 (x + 87) = some (mcell (x + 87) g) ∧ g 0 = code)) := by
  refine ev_mono (op2R st hX hok hno hr hY) ?_
  rintro v h1 ⟨code, e, cy, o, E⟩
  refine ⟨code, e, cy, o, ev_mono E ?_⟩
  rintro u h2 ⟨w, e2, f, ⟨lf, o2, z⟩, gg⟩
  exact ⟨w, e2, f, ⟨lf, o2, fun q => (z q).1⟩, gg⟩
/-- a call that throws nothing -/
theorem op1 {w : Int32} (st : STA G bs x h a) (hX : Ev G dx kX AsX h (fun v h1 => v = .int w ∧ XS G bs x h a h1 a')) (hY : YP G bs x dy kY AsY a a' 0 w) : Ev G dx kX AsX h (fun v h1 => v = .int w ∧ CY bs x h h1 ∧ Ev G dy kY AsY h1 (fun u h2 => u = .int w ∧ FIN G bs x h a h2)) := by
  obtain ⟨S0, g0, lf0, gx0, sx0, sy0, o0⟩ := st
  refine ev_mono hX ?_
  rintro v h' ⟨rfl, S, c', s, gx, sx, F, k1, k2⟩
  have gx' := gx
  obtain ⟨g1, g2, g3, g4, g5⟩ := gx
  have sy1 : SYA x h' g0 a := SYg.keep sy0 F (fun k z => by unfold XF at z; omega)
  have o1 := F.k o0 (by unfold XF; omega)
  refine ⟨rfl, ⟨⟨g0, sy1.1.1⟩, fun k e hk he => F.k he (fun z => by unfold XF at z; omega)⟩, ?_⟩
  refine ev_mono (hY _ S g0 gx' sx sy1) ?_
  rintro u h2 ⟨⟨w', rfl, ew⟩, ⟨g', sy2, eg⟩, FY⟩
  rw [ew rfl]
  exact ⟨rfl, fin_y (h1 := h') gx' sx o1 (F.mono (fun k z => Or.inl z) (Nat.le_refl _) (Nat.le_refl _)) k1 (by omega) sy2 FY⟩
/-- nothing has changed but what is skipped -/
theorem xs_skip {S : Nat → Prop} (gx : GX bs x S h a) (sx : SXA G bs x S h a) {n : Nat} (hn : n ≤ 6) : XS G bs x h a (am_skip h n) a := by
  have F : HF (fun _ => False) 1 n h (am_skip h n) := HF.skip sx.sys.1
  have gx' := gx
  obtain ⟨g1, g2, g3, g4, g5⟩ := gx
  have z := F.z
  exact ⟨S, 1, n, ⟨g1, fun k sk => by have := g2 k sk; omega, by omega, g4, g5⟩, sx.keep g1 g2 F (fun k z => z.elim), F.mono (fun k z => z.elim) (Nat.le_refl _) (Nat.le_refl _), by omega, by omega⟩
theorem xs_same {S : Nat → Prop} (gx : GX bs x S h a) (sx : SXA G bs x S h a) : XS G bs x h a h a := ⟨S, 0, 0, gx, sx, (HF.refl sx.sys.1).mono (fun _ z => z) (Nat.le_refl _) (Nat.le_refl _), by omega, by omega⟩
/-- a question whose model's heap is known -/
theorem yp_c {r : Nat × Int32} (hY : ∀ h2 g, MM h2 (x + 87) g a.m → VR a.m → g 6 = nI a.ws.length → Yc G dy kY AsY h2 (x + 87) g r) : YP G bs x dy kY AsY a a (nI r.1) r.2 := by
  intro h2 S g gx sx sy
  have v : VR a.m := by obtain ⟨b, l, ⟨-, v, -⟩, -⟩ := sx; exact v
  have e6 : g 6 = nI a.ws.length := sy.2.2.2.2.2.2.2.2.2.2.1
  obtain ⟨n, R, e, er⟩ := hY h2 g sy.1 v e6
  subst er
  exact ⟨n, _, e, _, _, rfl, ⟨_, rfl, fun _ => rfl⟩, ⟨_, SYg.num sy rfl rfl rfl rfl id, upd_eq⟩, (HF.set sx.sys.1 sy.1.1).mono (fun k z => by unfold YF; omega) (Nat.le_refl _) (Nat.le_refl _)⟩
/-- a question through a helper -/
theorem op2q {cls : Nat → Nat} {cd : Nat → Int32} {r : Nat × Int32} (st : STA G bs x h a) (hX : Ev G dx kX AsX h (HO (x + 97) (QV h r) (QX h r cls) cd)) (hcd : r.1 ≠ 0 → cd (cls r.1) = nI r.1) (hr : r.1 < 1000) (hY : ∀ h2 g, MM h2 (x + 87) g a.m → VR a.m → g 6 = nI a.ws.length → Yc G dy kY AsY h2 (x + 87) g r) : Ev G dx kX AsX h (fun v h1 => ∃ code, v = .int code ∧ CY bs x h h1 ∧ (∃ lf, h1.1 (x + 97) = some (lcell lf)) ∧ Ev G dy kY AsY h1 (fun u h2 => ∃ w, u = .int w ∧ FIN G bs x h a h2 ∧ (∃ lf, h2.1 (x + 97) = some (lcell lf) ∧ (code = 0 → lf 0 = w.toInt64)) ∧ ∃ g, h2.1 (x + 87) = some (mcell (x + 87) g) ∧ g 0 = code)) := by
  have st' := st
  obtain ⟨S0, g0, lf0, gx0, sx0, sy0, o0⟩ := st'
  refine op2 st hX (fun n h1 p => ?_) (fun c h1 p => ?_) hr (yp_c hY)
  · obtain ⟨p1, p2, rfl⟩ := p
    cases p2
    exact ⟨p1, rfl, xs_same gx0 sx0⟩
  · obtain ⟨p1, rfl, rfl⟩ := p
    exact ⟨p1, hcd p1, xs_skip gx0 sx0 (Nat.le_refl _)⟩
theorem op2qR {cls : Nat → Nat} {cd : Nat → Int32} {r : Nat × Int32} (st : STA G bs x h a) (hX : Ev G dx kX AsX h (HO (x + 97) (QV h r) (QX h r cls) cd)) (hcd : r.1 ≠ 0 → cd (cls r.1) = nI r.1) (hr : r.1 < 1000) (hY : ∀ h2 g, MM h2 (x + 87) g a.m → VR a.m → g 6 = nI a.ws.length → Yc G dy kY AsY h2 (x + 87) g r) : Ev G dx kX AsX h (fun v h1 => ∃ code, v = .int code ∧ CY bs x h h1 ∧ (∃ lf, h1.1 (x + 97) = some (lcell lf)) ∧ Ev G dy kY AsY h1 (fun u h2 => ∃ w, u = .int w ∧ FIN G bs x h a h2 ∧ (∃ lf, h2.1 (x + 97) = some (lcell lf) ∧ (code = 0 → lf 0 = w.toInt64 ∧ w = r.2)) ∧ ∃ g, h2.1 (x + 87) = some (mcell (x + 87) g) ∧ g 0 = code)) := by
  have st' := st
  obtain ⟨S0, g0, lf0, gx0, sx0, sy0, o0⟩ := st'
  refine op2R st hX (fun n h1 p => ?_) (fun c h1 p => ?_) hr (yp_c hY)
  · obtain ⟨p1, p2, rfl⟩ := p
    cases p2
    exact ⟨p1, rfl, xs_same gx0 sx0⟩
  · obtain ⟨p1, rfl, rfl⟩ := p
    exact ⟨p1, hcd p1, xs_skip gx0 sx0 (Nat.le_refl _)⟩
end
