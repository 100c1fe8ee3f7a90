/-! THE STATE: what both hold between two calls -/
set_option maxRecDepth 100000
/-- a world, whatever it holds -/
def WX (h : am_H) (w : Nat) : Prop := ∃ m b l, WA h w m b l
/-- what holds of a row besides -/
def RK (m : Nat → Int32) : Prop := LV m ∧ LC m ∧ LB m ∧ ∀ k, 769 ≤ k → m k = 0
/-- the tape's bytes on both sides -/
def TF (T f : Nat → Int32) : Prop := ∀ k, k < 400 → BT (T k) ∧ f k = sbI (T k)
def SHB (h : am_H) (x : Nat) : Prop := ∃ pe st, h.1 (x + 65) = some (.inr (5, [.ref (x + 66), .ref (x + 67), .ref (x + 68), .int pe, .int st, .ref (x + 69), .ref (x + 70), .ref x])) ∧ (∃ f, h.1 (x + 66) = some (.inl (0, 7168, .inl f))) ∧ (∃ f, h.1 (x + 67) = some (.inl (0, 6, .inl f))) ∧ (∃ f, h.1 (x + 68) = some (.inl (0, 1024, .inl f)) ∧ f 0 = 0) ∧ (∃ f, h.1 (x + 69) = some (.inl (0, 6, .inl f))) ∧ ∃ f, h.1 (x + 70) = some (.inl (1, 1024, .inl f))
/-- the image: if there is one -/
def IM (G : am_G) (bs x : Nat) (S : Nat → Prop) (hi : Bool) (h : am_H) (mi : Nat → Int32) : Prop := hi = true → ∃ bi li, WA h (x + 31) mi bi li ∧ VR mi ∧ BY bi mi ∧ LO G bs h S mi li ∧ RK mi
/-- the reader -/
def RX (x : Nat) (h : am_H) (T : Nat → Int32) (len : Nat) (ft : Int32) : Prop := ∃ f n at_ bg dp, RS h (x + 46) f len n at_ bg ft dp ∧ TF T f
/-- the system's other cells -/
def OX (G : am_G) (bs x : Nat) (S : Nat → Prop) (hi : Bool) (h : am_H) (mi T : Nat → Int32) (len : Nat) (ft : Int32) : Prop := IM G bs x S hi h mi ∧ WX h (x + 16) ∧ WX h (x + 31) ∧ WX h (x + 49) ∧ WX h (x + 72) ∧ RX x h T len ft ∧ (∃ f, h.1 (x + 71) = some (.inl (0, 64, .inl f))) ∧ SHB h x
/-- where they lie -/
def OF (x : Nat) : Nat → Prop := fun a => (x + 16 ≤ a ∧ a < x + 48) ∨ (x + 49 ≤ a ∧ a < x + 64) ∨ (x + 65 ≤ a ∧ a < x + 87)
/-- the system -/
def SX (G : am_G) (bs x : Nat) (S : Nat → Prop) (h : am_H) (m mi : Nat → Int32) (hi : Bool) (ws : List (Nat × (Nat → Int32))) (T : Nat → Int32) (len : Nat) (ft : Int32) : Prop := ∃ b l, HS G bs x (x + 1) S hi h m b l ∧ WB G bs x S h l m ws ∧ OX G bs x S hi h mi T len ft
/-- remembered rows as the model has them -/
def AR (ac : Nat → Int32) (ws : List (Nat × (Nat → Int32))) : Prop := ∀ i (hi : i < ws.length), ∀ k, k < 369 → ac (369 * i + k) = ws[i].2 k
/-- the model -/
def SYg (y : Nat) (h : am_H) (g m mi : Nat → Int32) (hi : Bool) (ws : List (Nat × (Nat → Int32))) (T : Nat → Int32) (len : Nat) (ft : Int32) : Prop := MM h y g m ∧ (∃ kp, h.1 (y + 2) = some (.inl (0, 769, .inl kp)) ∧ (hi = true → kp = mi) ∧ ∀ k, 769 ≤ k → kp k = 0) ∧ ASD h y ∧ (∃ ac, h.1 (y + 4) = some (.inl (0, 4428, .inl ac)) ∧ AR ac ws) ∧ h.1 (y + 5) = some (.inl (0, 400, .inl T)) ∧ (∃ fa, h.1 (y + 6) = some (.inl (0, 7, .inl fa))) ∧ (∃ f, h.1 (y + 7) = some (.inl (0, 1024, .inl f))) ∧ (∃ f, h.1 (y + 8) = some (.inl (0, 1024, .inl f))) ∧ (∃ f, h.1 (y + 9) = some (.inl (0, 6, .inl f))) ∧ (g 3 = bI hi ∧ g 6 = nI ws.length ∧ g 8 = nI len ∧ g 12 = ft ∧ Bz (g 15) ∧ Bz (g 16))
def SY (y : Nat) (h : am_H) (m mi : Nat → Int32) (hi : Bool) (ws : List (Nat × (Nat → Int32))) (T : Nat → Int32) (len : Nat) (ft : Int32) : Prop := ∃ g, SYg y h g m mi hi ws T len ft
/-- both, with one row -/
def ST (G : am_G) (bs x : Nat) (h : am_H) (m mi : Nat → Int32) (hi : Bool) (ws : List (Nat × (Nat → Int32))) (T : Nat → Int32) (len : Nat) (ft : Int32) : Prop := ∃ S, (bs ≤ x ∧ SG bs x S h ∧ x + 98 ≤ h.2.1 ∧ len ≤ 400 ∧ RK m) ∧ SX G bs x S h m mi hi ws T len ft ∧ SY (x + 87) h m mi hi ws T len ft ∧ ∃ lf, h.1 (x + 97) = some (lcell lf)
section
variable {G : am_G} {bs x y : Nat} {S : Nat → Prop} {hi : Bool} {h h' : am_H} {m mi T g g' : Nat → Int32} {ws : List (Nat × (Nat → Int32))} {len c s : Nat} {ft : Int32} {P : Nat → Prop}
theorem WX.keep {w : Nat} (q : WX h w) (f : HF P c s h h') (hp : ∀ a, P a → a < w ∨ w + 15 ≤ a) : WX h' w := by
  obtain ⟨m, b, l, q⟩ := q
  exact ⟨m, b, l, q.keep f hp⟩
theorem SHB.keep (q : SHB h x) (f : HF P c s h h') (hp : ∀ a, P a → a < x + 65 ∨ x + 71 ≤ a) : SHB h' x := by
  obtain ⟨pe, st, q1, ⟨f2, q2⟩, ⟨f3, q3⟩, ⟨f4, q4, q4'⟩, ⟨f5, q5⟩, f6, q6⟩ := q
  have no : ∀ k, x + 65 ≤ k → k < x + 71 → ¬ P k := fun k h1 h2 z => by have := hp k z; omega
  exact ⟨pe, st, f.k q1 (no _ (by omega) (by omega)), ⟨f2, f.k q2 (no _ (by omega) (by omega))⟩, ⟨f3, f.k q3 (no _ (by omega) (by omega))⟩, ⟨f4, f.k q4 (no _ (by omega) (by omega)), q4'⟩, ⟨f5, f.k q5 (no _ (by omega) (by omega))⟩, f6, f.k q6 (no _ (by omega) (by omega))⟩
theorem RX.keep (q : RX x h T len ft) (f : HF P c s h h') (hp : ∀ a, P a → a ≠ x + 46 ∧ a ≠ x + 47) : RX x h' T len ft := by
  obtain ⟨ff, n, at_, bg, dp, q1, q2⟩ := q
  exact ⟨ff, n, at_, bg, dp, q1.keep f (fun z => (hp _ z).1 rfl) (fun z => (hp _ z).2 rfl), q2⟩
theorem IM.keep (q : IM G bs x S hi h mi) (f : HF P c s h h') (hp : ∀ a, P a → (a < x + 31 ∨ x + 46 ≤ a) ∧ ¬ S a) : IM G bs x S hi h' mi := fun e => by
  obtain ⟨bi, li, q1, q2, q3, q4, q5⟩ := q e
  exact ⟨bi, li, q1.keep f (fun a z => by have := (hp a z).1; omega), q2, q3, q4.keep (f.sk (fun a sa z => (hp a z).2 sa)) rfl rfl (fun _ _ => rfl), q5⟩
theorem OX.keep (q : OX G bs x S hi h mi T len ft) (f : HF P c s h h') (hp : ∀ a, P a → ¬ OF x a ∧ ¬ S a) : OX G bs x S hi h' mi T len ft := by
  obtain ⟨q1, q2, q3, q4, q5, q6, ⟨f7, q7⟩, q8⟩ := q
  have no : ∀ a, P a → ¬ OF x a := fun a z => (hp a z).1
  refine ⟨q1.keep f (fun a z => ⟨?_, (hp a z).2⟩), q2.keep f (fun a z => ?_), q3.keep f (fun a z => ?_), q4.keep f (fun a z => ?_), q5.keep f (fun a z => ?_), q6.keep f (fun a z => ?_), ⟨f7, f.k q7 (fun z => ?_)⟩, q8.keep f (fun a z => ?_)⟩ <;> (have := no _ z; unfold OF at this; omega)
/-- what the model writes leaves the system as it is -/
theorem SX.keep (gx : bs ≤ x) (sg : SG bs x S h) (q : SX G bs x S h m mi hi ws T len ft) (f : HF P c s h h') (hp : ∀ a, P a → x + 87 ≤ a ∧ a < x + 98) : SX G bs x S h' m mi hi ws T len ft := by
  obtain ⟨b, l, q1, q2, q3⟩ := q
  have nS : ∀ a, P a → ¬ S a := fun a z sa => by have := hp a z; have := (sg a sa).1; omega
  refine ⟨b, l, q1.kp f (fun a z => ?_), q2.kp f (fun a z => ?_), q3.keep f (fun a z => ⟨?_, nS a z⟩)⟩
  · have := hp a z
    exact ⟨by omega, by unfold InW; omega, by omega, by omega, nS a z⟩
  · have := hp a z; omega
  · have := hp a z; unfold OF; omega
theorem SYg.keep (q : SYg y h g m mi hi ws T len ft) (f : HF P c s h h') (hp : ∀ a, P a → a < y ∨ y + 10 ≤ a) : SYg y h' g m mi hi ws T len ft := by
  obtain ⟨⟨q1, q2⟩, ⟨kp, q3, q3', q3''⟩, ⟨ad, q4⟩, ⟨ac, q5, q5'⟩, q6, ⟨fa, q7⟩, ⟨f8, q8⟩, ⟨f9, q9⟩, ⟨f10, q10⟩, q11⟩ := q
  have no : ∀ k, y ≤ k → k < y + 10 → ¬ P k := fun k h1 h2 z => by have := hp k z; omega
  exact ⟨⟨f.k q1 (no _ (by omega) (by omega)), f.k q2 (no _ (by omega) (by omega))⟩, ⟨kp, f.k q3 (no _ (by omega) (by omega)), q3', q3''⟩, ⟨ad, f.k q4 (no _ (by omega) (by omega))⟩, ⟨ac, f.k q5 (no _ (by omega) (by omega)), q5'⟩, f.k q6 (no _ (by omega) (by omega)), ⟨fa, f.k q7 (no _ (by omega) (by omega))⟩, ⟨f8, f.k q8 (no _ (by omega) (by omega))⟩, ⟨f9, f.k q9 (no _ (by omega) (by omega))⟩, ⟨f10, f.k q10 (no _ (by omega) (by omega))⟩, q11⟩
theorem SY.keep (q : SY y h m mi hi ws T len ft) (f : HF P c s h h') (hp : ∀ a, P a → a < y ∨ y + 10 ≤ a) : SY y h' m mi hi ws T len ft := by
  obtain ⟨g, q⟩ := q
  exact ⟨g, q.keep f hp⟩
/-- other numbers -/
theorem SYg.num (q : SYg y h g m mi hi ws T len ft) (k3 : g' 3 = g 3) (k6 : g' 6 = g 6) (k8 : g' 8 = g 8) (k12 : g' 12 = g 12) (kz : Bz (g 15) ∧ Bz (g 16) → Bz (g' 15) ∧ Bz (g' 16)) : SYg y (mh h y g') g' m mi hi ws T len ft := by
  obtain ⟨⟨q1, q2⟩, ⟨kp, q3, q3', q3''⟩, ⟨ad, q4⟩, ⟨ac, q5, q5'⟩, q6, ⟨fa, q7⟩, ⟨f8, q8⟩, ⟨f9, q9⟩, ⟨f10, q10⟩, e3, e6, e8, e12, ez⟩ := q
  exact ⟨⟨am_set_at, am_set_k q2 (by omega)⟩, ⟨kp, am_set_k q3 (by omega), q3', q3''⟩, ⟨ad, am_set_k q4 (by omega)⟩, ⟨ac, am_set_k q5 (by omega), q5'⟩, am_set_k q6 (by omega), ⟨fa, am_set_k q7 (by omega)⟩, ⟨f8, am_set_k q8 (by omega)⟩, ⟨f9, am_set_k q9 (by omega)⟩, ⟨f10, am_set_k q10 (by omega)⟩, k3.trans e3, k6.trans e6, k8.trans e8, k12.trans e12, kz ez⟩
end
