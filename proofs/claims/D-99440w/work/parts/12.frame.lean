/-! FRAME: heaps that grow, what stays; calls that change the heap -/
set_option maxRecDepth 100000
/-- nothing lies behind the heap's end -/
def HW (h : am_H) : Prop := ∀ a e, h.1 a = some e → a < h.2.1
/-- from h to h' all known cells outside P stay; at most c cells of s slots are new -/
def HF (P : Nat → Prop) (c s : Nat) (h h' : am_H) : Prop := HW h' ∧ (∀ a e, ¬ P a → h.1 a = some e → h'.1 a = some e) ∧ (h.2.1 ≤ h'.2.1 ∧ h'.2.1 ≤ h.2.1 + c) ∧ (h.2.2 ≤ h'.2.2 ∧ h'.2.2 ≤ h.2.2 + s)
section
variable {P P' : Nat → Prop} {c s c' s' : Nat} {h h' h'' : am_H}
theorem HF.w (f : HF P c s h h') : HW h' := f.1
theorem HF.k (f : HF P c s h h') {a : Nat} {e : am_C} (ha : h.1 a = some e) (hp : ¬ P a) : h'.1 a = some e := f.2.1 a e hp ha
theorem HF.z (f : HF P c s h h') : h.2.1 ≤ h'.2.1 := f.2.2.1.1
theorem HF.refl (w : HW h) : HF P 0 0 h h := ⟨w, fun _ _ _ q => q, ⟨Nat.le_refl _, Nat.le_refl _⟩, Nat.le_refl _, Nat.le_refl _⟩
theorem HF.trans (f : HF P c s h h') (g : HF P c' s' h' h'') : HF P (c + c') (s + s') h h'' := by
  obtain ⟨f1, f2, ⟨f3, f4⟩, f5, f6⟩ := f
  obtain ⟨g1, g2, ⟨g3, g4⟩, g5, g6⟩ := g
  exact ⟨g1, fun a e p q => g2 a e p (f2 a e p q), ⟨by omega, by omega⟩, by omega, by omega⟩
theorem HF.mono (f : HF P c s h h') (hp : ∀ a, P a → P' a) (hc : c ≤ c') (hs : s ≤ s') : HF P' c' s' h h' := by
  obtain ⟨f1, f2, ⟨f3, f4⟩, f5, f6⟩ := f
  exact ⟨f1, fun a e p q => f2 a e (fun z => p (hp a z)) q, ⟨f3, by omega⟩, f5, by omega⟩
/-- .. P weaker where nothing known lies -/
theorem HF.sub (f : HF P c s h h') (hp : ∀ a e, h.1 a = some e → P a → P' a) (hc : c ≤ c') (hs : s ≤ s') : HF P' c' s' h h' := by
  obtain ⟨f1, f2, ⟨f3, f4⟩, f5, f6⟩ := f
  exact ⟨f1, fun a e p q => f2 a e (fun z => p (hp a e q z)) q, ⟨f3, by omega⟩, f5, by omega⟩
theorem am_set_at {a : Nat} {e : am_C} : (am_set h a e).1 a = some e := if_pos rfl
theorem am_set_ne {a b : Nat} {e : am_C} (q : b ≠ a) : (am_set h a e).1 b = h.1 b := if_neg q
theorem am_set_k {a b : Nat} {e e' : am_C} (hb : h.1 b = some e') (q : b ≠ a) : (am_set h a e).1 b = some e' := (am_set_ne q).trans hb
theorem am_set_set {a : Nat} {e e' : am_C} : am_set (am_set h a e) a e' = am_set h a e' := by
  unfold am_set
  simp only [Prod.mk.injEq, and_true]
  funext b
  by_cases q : b = a
  · rw [if_pos q, if_pos q]
  · rw [if_neg q, if_neg q, if_neg q]
theorem am_set_id {a : Nat} {e : am_C} (q : h.1 a = some e) : am_set h a e = h := by
  obtain ⟨f, r⟩ := h
  unfold am_set
  simp only [Prod.mk.injEq, and_true]
  funext b
  by_cases z : b = a
  · rw [if_pos z, z]; exact q.symm
  · rw [if_neg z]
theorem HF.set {a : Nat} {e0 e : am_C} (w : HW h) (ha : h.1 a = some e0) : HF (fun b => b = a) 0 0 h (am_set h a e) := by
  refine ⟨fun b e' q => ?_, fun b e' p q => am_set_k q p, ⟨Nat.le_refl _, Nat.le_refl _⟩, Nat.le_refl _, Nat.le_refl _⟩
  by_cases z : b = a
  · rw [z]; exact w a e0 ha
  · rw [am_set_ne z] at q; exact w b e' q
theorem am_new_at {e : am_C} {n : Nat} : (am_new h e n).1 h.2.1 = some e := if_pos rfl
theorem am_new_ne {b : Nat} {e : am_C} {n : Nat} (q : b ≠ h.2.1) : (am_new h e n).1 b = h.1 b := if_neg q
theorem am_new_k {b : Nat} {e e' : am_C} {n : Nat} (w : HW h) (hb : h.1 b = some e') : (am_new h e n).1 b = some e' := (am_new_ne (Nat.ne_of_lt (w b e' hb))).trans hb
theorem HF.new {e : am_C} {n : Nat} (w : HW h) : HF (fun _ => False) 1 n h (am_new h e n) := by
  refine ⟨fun b e' q => ?_, fun b e' _ q => am_new_k w q, ⟨Nat.le_succ _, Nat.le_refl _⟩, Nat.le_add_right _ _, Nat.le_refl _⟩
  by_cases z : b = h.2.1
  · rw [z]; exact Nat.lt_succ_self _
  · rw [am_new_ne z] at q; exact Nat.lt_succ_of_lt (w b e' q)
theorem HF.skip {n : Nat} (w : HW h) : HF (fun _ => False) 1 n h (am_skip h n) :=
  ⟨fun b e' q => Nat.lt_succ_of_lt (w b e' q), fun b e' _ q => q, ⟨Nat.le_succ _, Nat.le_refl _⟩, Nat.le_add_right _ _, Nat.le_refl _⟩
/-- .. a cell that is new since h0 is written -/
theorem HF.setN {h0 : am_H} {a : Nat} {e0 e : am_C} (f : HF P c s h0 h) (ha : h.1 a = some e0) (w0 : HW h0) (hn : h0.2.1 ≤ a) : HF P c s h0 (am_set h a e) := by
  have g := HF.set (e := e) f.w ha
  obtain ⟨f1, f2, f3, f5⟩ := f
  refine ⟨g.1, fun b e' p q => ?_, f3, f5⟩
  exact am_set_k (f2 b e' p q) (fun z => by subst z; exact absurd (w0 b e' q) (by omega))
theorem HF.setP {h0 : am_H} {a : Nat} {e0 e : am_C} (f : HF P c s h0 h) (ha : h.1 a = some e0) (hp : P a) : HF P c s h0 (am_set h a e) := by
  have g := HF.set (e := e) f.w ha
  obtain ⟨f1, f2, f3, f5⟩ := f
  refine ⟨g.1, fun b e' p q => ?_, f3, f5⟩
  exact am_set_k (f2 b e' p q) (fun z => by subst z; exact p hp)
theorem HF.newN {h0 : am_H} {e : am_C} {n : Nat} (f : HF P c s h0 h) : HF P (c + 1) (s + n) h0 (am_new h e n) := f.trans ((HF.new f.w).mono (fun _ z => z.elim) (Nat.le_refl _) (Nat.le_refl _))
theorem HF.skipN {h0 : am_H} {n : Nat} (f : HF P c s h0 h) : HF P (c + 1) (s + n) h0 (am_skip h n) := f.trans ((HF.skip f.w).mono (fun _ z => z.elim) (Nat.le_refl _) (Nat.le_refl _))
end
/-- a call that answers, the heap changed -/
abbrev Ev (G : am_G) (d k : Nat) (As : List Value) (h : am_H) (Φ : Value → am_H → Prop) : Prop := Wc G d k As h (fun R => ∃ v h', R = .inl (some v, h') ∧ Φ v h')
/-- .. that answers nothing -/
abbrev En (G : am_G) (d k : Nat) (As : List Value) (h : am_H) (Φ : am_H → Prop) : Prop := Wc G d k As h (fun R => ∃ h', R = .inl (none, h') ∧ Φ h')
/-- .. that answers or throws -/
abbrev Et (G : am_G) (d k : Nat) (As : List Value) (h : am_H) (Φ : Value → am_H → Prop) (Ψ : Nat → am_H → Prop) : Prop := Wc G d k As h (fun R => (∃ v h', R = .inl (some v, h') ∧ Φ v h') ∨ (∃ c h', R = .inr (c, h') ∧ Ψ c h'))
abbrev Etn (G : am_G) (d k : Nat) (As : List Value) (h : am_H) (Φ : am_H → Prop) (Ψ : Nat → am_H → Prop) : Prop := Wc G d k As h (fun R => (∃ h', R = .inl (none, h') ∧ Φ h') ∨ (∃ c h', R = .inr (c, h') ∧ Ψ c h'))
section
variable {G : am_G} {d e : Nat} {M : am_M} {pc nx tg n : Nat} {L st st0 As : List Value} {h : am_H} {Q Q1 : am_O → Prop} {k : Nat} {ds : List (Nat × Nat)} {a c : Nat} {fs : List Value} {Φ : Value → am_H → Prop} {Φn : am_H → Prop} {Ψ : Nat → am_H → Prop}
theorem am_inv_ok (hp : am_pop n [] st0 = some (As, st)) (hw : (Nat.ble (am_wd st) 8 && am_1s As) = true) : a_inv k n nx G L st0 h = some (.inr (.inl (k, As, nx, L, st, h))) := by simp only [a_inv, hp, hw, cond_true]
theorem am_invi_ok (hp : am_pop n [] st0 = some (As, .ref a :: st)) (hw : (Nat.ble (am_wd st) 8 && am_1s As) = true) : a_invi k n nx G L st0 h = some (.inr (.inl (k, .ref a :: As, nx, L, st, h))) := by simp only [a_invi, hp, hw, cond_true]
theorem am_invv_ok (hp : am_pop n [] st0 = some (As, .ref a :: st)) (ha : h.1 a = some (.inr (c, fs))) (hk : am_dp c ds = some k) (hw : (Nat.ble (am_wd st) 8 && am_1s As) = true) : a_invv ds n nx G L st0 h = some (.inr (.inl (k, .ref a :: As, nx, L, st, h))) := by simp only [a_invv, hp, ha, hk, hw, cond_true]
theorem r_invE (hf : M.1 pc = some (a_inv k n nx)) (hp : am_pop n [] st0 = some (As, st)) (hw : (Nat.ble (am_wd st) 8 && am_1s As) = true) (hd : e < d) (hc : Ev G e k As h Φ) (kk : ∀ v h', Φ v h' → Wp G d M nx L (v :: st) h' Q) : Wp G d M pc L st0 h Q :=
  r_k hf (am_inv_ok hp hw) hd hc (fun R q => by obtain ⟨v, h', rfl, q⟩ := q; exact kk v h' q)
theorem r_invF (hf : M.1 pc = some (a_inv k n nx)) (hp : am_pop n [] st0 = some (As, st)) (hw : (Nat.ble (am_wd st) 8 && am_1s As) = true) (hd : e < d) (hc : En G e k As h Φn) (kk : ∀ h', Φn h' → Wp G d M nx L st h' Q) : Wp G d M pc L st0 h Q :=
  r_k hf (am_inv_ok hp hw) hd hc (fun R q => by obtain ⟨h', rfl, q⟩ := q; exact kk h' q)
theorem r_inviF (hf : M.1 pc = some (a_invi k n nx)) (hp : am_pop n [] st0 = some (As, .ref a :: st)) (hw : (Nat.ble (am_wd st) 8 && am_1s As) = true) (hd : e < d) (hc : En G e k (.ref a :: As) h Φn) (kk : ∀ h', Φn h' → Wp G d M nx L st h' Q) : Wp G d M pc L st0 h Q :=
  r_k hf (am_invi_ok hp hw) hd hc (fun R q => by obtain ⟨h', rfl, q⟩ := q; exact kk h' q)
theorem r_invvE (hf : M.1 pc = some (a_invv ds n nx)) (hp : am_pop n [] st0 = some (As, .ref a :: st)) (ha : h.1 a = some (.inr (c, fs))) (hk : am_dp c ds = some k) (hw : (Nat.ble (am_wd st) 8 && am_1s As) = true) (hd : e < d) (hc : Ev G e k (.ref a :: As) h Φ) (kk : ∀ v h', Φ v h' → Wp G d M nx L (v :: st) h' Q) : Wp G d M pc L st0 h Q :=
  r_k hf (am_invv_ok hp ha hk hw) hd hc (fun R q => by obtain ⟨v, h', rfl, q⟩ := q; exact kk v h' q)
theorem r_invvF (hf : M.1 pc = some (a_invv ds n nx)) (hp : am_pop n [] st0 = some (As, .ref a :: st)) (ha : h.1 a = some (.inr (c, fs))) (hk : am_dp c ds = some k) (hw : (Nat.ble (am_wd st) 8 && am_1s As) = true) (hd : e < d) (hc : En G e k (.ref a :: As) h Φn) (kk : ∀ h', Φn h' → Wp G d M nx L st h' Q) : Wp G d M pc L st0 h Q :=
  r_k hf (am_invv_ok hp ha hk hw) hd hc (fun R q => by obtain ⟨h', rfl, q⟩ := q; exact kk h' q)
/-- a call that may throw, no handler here -/
theorem r_invT (hf : M.1 pc = some (a_inv k n nx)) (hp : am_pop n [] st0 = some (As, st)) (hw : (Nat.ble (am_wd st) 8 && am_1s As) = true) (hn : M.2.2 = []) (hd : e < d) (hc : Et G e k As h Φ Ψ) (kk : ∀ v h', Φ v h' → Wp G d M nx L (v :: st) h' Q) (kt : ∀ c h', Ψ c h' → Q (.inr (c, h'))) : Wp G d M pc L st0 h Q :=
  r_k hf (am_inv_ok hp hw) hd hc (fun R q => by
    rcases q with ⟨v, h', rfl, q⟩ | ⟨c, h', rfl, q⟩
    · exact kk v h' q
    · simp only [Wr, hn, am_find]; exact kt c h' q)
theorem r_invS (hf : M.1 pc = some (a_inv k n nx)) (hp : am_pop n [] st0 = some (As, st)) (hw : (Nat.ble (am_wd st) 8 && am_1s As) = true) (hn : M.2.2 = []) (hd : e < d) (hc : Etn G e k As h Φn Ψ) (kk : ∀ h', Φn h' → Wp G d M nx L st h' Q) (kt : ∀ c h', Ψ c h' → Q (.inr (c, h'))) : Wp G d M pc L st0 h Q :=
  r_k hf (am_inv_ok hp hw) hd hc (fun R q => by
    rcases q with ⟨h', rfl, q⟩ | ⟨c, h', rfl, q⟩
    · exact kk h' q
    · simp only [Wr, hn, am_find]; exact kt c h' q)
theorem r_invvT (hf : M.1 pc = some (a_invv ds n nx)) (hp : am_pop n [] st0 = some (As, .ref a :: st)) (ha : h.1 a = some (.inr (c, fs))) (hk : am_dp c ds = some k) (hw : (Nat.ble (am_wd st) 8 && am_1s As) = true) (hn : M.2.2 = []) (hd : e < d) (hc : Et G e k (.ref a :: As) h Φ Ψ) (kk : ∀ v h', Φ v h' → Wp G d M nx L (v :: st) h' Q) (kt : ∀ c h', Ψ c h' → Q (.inr (c, h'))) : Wp G d M pc L st0 h Q :=
  r_k hf (am_invv_ok hp ha hk hw) hd hc (fun R q => by
    rcases q with ⟨v, h', rfl, q⟩ | ⟨c, h', rfl, q⟩
    · exact kk v h' q
    · simp only [Wr, hn, am_find]; exact kt c h' q)
theorem r_invvS (hf : M.1 pc = some (a_invv ds n nx)) (hp : am_pop n [] st0 = some (As, .ref a :: st)) (ha : h.1 a = some (.inr (c, fs))) (hk : am_dp c ds = some k) (hw : (Nat.ble (am_wd st) 8 && am_1s As) = true) (hn : M.2.2 = []) (hd : e < d) (hc : Etn G e k (.ref a :: As) h Φn Ψ) (kk : ∀ h', Φn h' → Wp G d M nx L st h' Q) (kt : ∀ c h', Ψ c h' → Q (.inr (c, h'))) : Wp G d M pc L st0 h Q :=
  r_k hf (am_invv_ok hp ha hk hw) hd hc (fun R q => by
    rcases q with ⟨h', rfl, q⟩ | ⟨c, h', rfl, q⟩
    · exact kk h' q
    · simp only [Wr, hn, am_find]; exact kt c h' q)
end
/-- a loop whose heap changes too: the measure falls -/
theorem wp_loop {G : am_G} {d : Nat} {M : am_M} {pc : Nat} {Q : am_O → Prop} {α : Type} (μ : α → Nat) (L : α → List Value) (I : α → am_H → Prop) (step : ∀ x h, I x h → (∀ y h', μ y < μ x → I y h' → Wp G d M pc (L y) [] h' Q) → Wp G d M pc (L x) [] h Q) : ∀ x h, I x h → Wp G d M pc (L x) [] h Q := by
  have key : ∀ n x h, μ x ≤ n → I x h → Wp G d M pc (L x) [] h Q := by
    intro n
    induction n with
    | zero => intro x h hm hI; exact step x h hI (fun y h' q _ => absurd q (by omega))
    | succ n ih => intro x h hm hI; exact step x h hI (fun y h' q hI' => ih y h' (by omega) hI')
  exact fun x h => key (μ x) x h (Nat.le_refl _)
/-- a loop that counts up, with what is known by then -/
theorem wp_forK {G : am_G} {d : Nat} {M : am_M} {pc : Nat} {h : am_H} {Q : am_O → Prop} (N : Nat) (I : Nat → List Value) (K : Nat → Prop) (h0 : K 0) (hs : ∀ j, j < N → K j → (K (j + 1) → Wp G d M pc (I (j + 1)) [] h Q) → Wp G d M pc (I j) [] h Q) (he : K N → Wp G d M pc (I N) [] h Q) : Wp G d M pc (I 0) [] h Q := by
  have key : ∀ n j, j + n = N → K j → Wp G d M pc (I j) [] h Q := by
    intro n
    induction n with
    | zero => intro j hj k; rw [show j = N by omega] at k ⊢; exact he k
    | succ n ih => intro j hj k; exact hs j (by omega) k (fun k' => ih (j + 1) (by omega) k')
  exact key N 0 (by omega) h0
/-- .. and the heap changes -/
theorem wp_forHK {G : am_G} {d : Nat} {M : am_M} {pc : Nat} {Q : am_O → Prop} (N : Nat) (I : Nat → List Value) (K : Nat → am_H → Prop) (hs : ∀ j h, j < N → K j h → (∀ h', K (j + 1) h' → Wp G d M pc (I (j + 1)) [] h' Q) → Wp G d M pc (I j) [] h Q) (he : ∀ h, K N h → Wp G d M pc (I N) [] h Q) {h : am_H} (h0 : K 0 h) : Wp G d M pc (I 0) [] h Q := by
  have key : ∀ n j, j + n = N → ∀ h, K j h → Wp G d M pc (I j) [] h Q := by
    intro n
    induction n with
    | zero => intro j hj h k; rw [show j = N by omega] at k ⊢; exact he h k
    | succ n ih => intro j hj h k; exact hs j h (by omega) k (fun h' k' => ih (j + 1) (by omega) h' k')
  exact key N 0 (by omega) h h0
theorem upd_eq {f : Nat → Int32} {k : Nat} {v : Int32} : upd f k v k = v := if_pos rfl
theorem upd_ne {f : Nat → Int32} {j k : Nat} {v : Int32} (h : j ≠ k) : upd f k v j = f j := if_neg h
