/-! WORLD: its cells when a place of the row changes; the writing methods -/
set_option maxRecDepth 100000
def InW (w : Nat) : Nat → Prop := fun a => w ≤ a ∧ a < w + 15
/-- place k isn't kept in cell j -/
def noP (j k : Nat) : Prop := (j = 0 → k ≠ 0 ∧ k ≠ 3 ∧ k ≠ 4 ∧ k ≠ 5 ∧ k ≠ 6 ∧ k ≠ 7 ∧ k ≠ 8) ∧ (1 ≤ j → j ≤ 6 → k < 33 ∨ 69 ≤ k ∨ (k - 33) % 6 ≠ j - 1) ∧ (j = 7 → k < 21 ∨ 33 ≤ k) ∧ (j = 8 → k < 9 ∨ 21 ≤ k) ∧ (9 ≤ j → j ≤ 12 → k < 69 ∨ 129 ≤ k ∨ (k - 69) % 6 ≠ j - 9) ∧ (j = 14 → k < 129 ∨ 369 ≤ k)
abbrev iar (f : Nat → Int32) : (Nat → Int32) ⊕ (Nat → Int64) ⊕ (Nat → UInt32) ⊕ (Nat → UInt64) ⊕ (Nat → Option Nat) := .inl f
section
variable {w : Nat} {m m' b b' : Nat → Int32} {l l' : Value} {k j : Nat} {v : Int32}
/-- two rows that are one where a cell looks -/
theorem wcl_c1 {t n c : Nat} (h : ∀ p, p < n → m' (c + 6 * p) = m (c + 6 * p)) : (.inl (t, n, .inl (cl n fun p => m' (c + 6 * p))) : am_C) = .inl (t, n, .inl (cl n fun p => m (c + 6 * p))) := by rw [cl_congr h]
theorem wcl_c2 {t n c : Nat} (h : ∀ p, p < n → m' (c + p) = m (c + p)) : (.inl (t, n, .inl (cl n fun p => m' (c + p))) : am_C) = .inl (t, n, .inl (cl n fun p => m (c + p))) := by rw [cl_congr h]
theorem wcl_eq (hj : j < 15) (h : ∀ k, ¬ noP j k → m' k = m k) (hb : j = 13 → ∀ s, s < 10 → b' s = b s) (hl : j = 0 → l' = l) : wcl w m' b' l' j = wcl w m b l j := by
  match j, hj with
  | 0, _ =>
    have z : ∀ k, (k = 0 ∨ k = 3 ∨ k = 4 ∨ k = 5 ∨ k = 6 ∨ k = 7 ∨ k = 8) → m' k = m k := fun k z => h k (fun y => by have := y.1 rfl; omega)
    simp only [wcl, wobj]
    rw [z 0 (by decide), z 3 (by decide), z 4 (by decide), z 5 (by decide), z 6 (by decide), z 7 (by decide), z 8 (by decide), hl rfl]
  | 1, _ => exact wcl_c1 (fun p hp => h _ (fun y => by have := y.2.1 (by decide) (by decide); omega))
  | 2, _ => exact wcl_c1 (fun p hp => h _ (fun y => by have := y.2.1 (by decide) (by decide); omega))
  | 3, _ => exact wcl_c1 (fun p hp => h _ (fun y => by have := y.2.1 (by decide) (by decide); omega))
  | 4, _ => exact wcl_c1 (fun p hp => h _ (fun y => by have := y.2.1 (by decide) (by decide); omega))
  | 5, _ => exact wcl_c1 (fun p hp => h _ (fun y => by have := y.2.1 (by decide) (by decide); omega))
  | 6, _ => exact wcl_c1 (fun p hp => h _ (fun y => by have := y.2.1 (by decide) (by decide); omega))
  | 7, _ => exact wcl_c2 (fun p hp => h _ (fun y => by have := y.2.2.1 rfl; omega))
  | 8, _ => exact wcl_c2 (fun p hp => h _ (fun y => by have := y.2.2.2.1 rfl; omega))
  | 9, _ => exact wcl_c1 (fun p hp => h _ (fun y => by have := y.2.2.2.2.1 (by decide) (by decide); omega))
  | 10, _ => exact wcl_c1 (fun p hp => h _ (fun y => by have := y.2.2.2.2.1 (by decide) (by decide); omega))
  | 11, _ => exact wcl_c1 (fun p hp => h _ (fun y => by have := y.2.2.2.2.1 (by decide) (by decide); omega))
  | 12, _ => exact wcl_c1 (fun p hp => h _ (fun y => by have := y.2.2.2.2.1 (by decide) (by decide); omega))
  | 13, _ =>
    have z : cl 10 b' = cl 10 b := cl_congr (hb rfl)
    simp only [wcl]
    rw [z]
  | 14, _ => exact wcl_c2 (fun p hp => h _ (fun y => by have := y.2.2.2.2.2 rfl; omega))
theorem upd_nk (h : ∀ k', ¬ noP j k' → k' ≠ k) : ∀ k', ¬ noP j k' → upd m k v k' = m k' := fun k' z => upd_ne (h k' z)
theorem noP_ne (h : noP j k) : ∀ k', ¬ noP j k' → k' ≠ k := fun k' z y => z (by rw [y]; exact h)
variable {h h' : am_H}
/-- a cell of the World is written, a place of the row changes -/
theorem WA.uc (q : WA h w m b l) {i : Nat} (hi : i < 15) (hn : ∀ j, j < 15 → j ≠ i → noP j k) {x : am_C} (hx : x = wcl w (upd m k v) b l i) : WA (am_set h (w + i) x) w (upd m k v) b l := by
  intro j hj
  by_cases z : j = i
  · rw [z, am_set_at, hx]
  · rw [am_set_ne (by omega), q j hj, wcl_eq (m' := upd m k v) (b' := b) (l' := l) hj (upd_nk (noP_ne (hn j hj z))) (fun _ _ _ => rfl) (fun _ => rfl)]
theorem WA.same (q : WA h w m b l) (e1 : ∀ k, k < 369 → m' k = m k) (e2 : ∀ s, s < 10 → b' s = b s) : WA h w m' b' l := by
  intro j hj
  rw [q j hj]
  refine congrArg some (wcl_eq hj (fun k z => (e1 k ?_).symm) (fun _ s hs => (e2 s hs).symm) (fun _ => rfl))
  by_cases y : k < 369
  · exact y
  · exact absurd (show noP j k from ⟨fun _ => by omega, fun _ _ => by omega, fun _ => by omega, fun _ => by omega, fun _ _ => by omega, fun _ => by omega⟩) z
theorem cl_row {n c p : Nat} (hp : p < n) : upd (cl n fun p => m (c + 6 * p)) p v = cl n fun p' => upd m (c + 6 * p) v (c + 6 * p') := by
  rw [cl_upd hp]
  refine cl_congr (fun p' _ => ?_)
  unfold upd
  by_cases z : p' = p
  · rw [if_pos z, if_pos (by omega)]
  · rw [if_neg z, if_neg (by omega)]
theorem cl_row1 {n c p : Nat} (hp : p < n) : upd (cl n fun p => m (c + p)) p v = cl n fun p' => upd m (c + p) v (c + p') := by
  rw [cl_upd hp]
  refine cl_congr (fun p' _ => ?_)
  unfold upd
  by_cases z : p' = p
  · rw [if_pos z, if_pos (by omega)]
  · rw [if_neg z, if_neg (by omega)]
theorem noP_p {i p : Nat} (hp : p < 6) (h1 : 1 ≤ i) (h6 : i ≤ 6) : ∀ j, j < 15 → j ≠ i → noP j (32 + i + 6 * p) := fun j hj z => ⟨by omega, by omega, by omega, by omega, by omega, by omega⟩
theorem noP_s {i p : Nat} (hp : p < 10) (h1 : 9 ≤ i) (h6 : i ≤ 12) : ∀ j, j < 15 → j ≠ i → noP j (60 + i + 6 * p) := fun j hj z => ⟨by omega, by omega, by omega, by omega, by omega, by omega⟩
theorem WA.pu (q : WA h w m b l) {p : Nat} (hp : p < 6) : WA (am_set h (w + 1) (.inl (0, 6, .inl (upd (cl 6 fun p => m (33 + 6 * p)) p v)))) w (upd m (33 + 6 * p) v) b l := q.uc (by decide) (noP_p (i := 1) hp (by decide) (by decide)) (by rw [cl_row hp]; rfl)
theorem WA.ba (q : WA h w m b l) {p : Nat} (hp : p < 6) : WA (am_set h (w + 2) (.inl (0, 6, .inl (upd (cl 6 fun p => m (34 + 6 * p)) p v)))) w (upd m (34 + 6 * p) v) b l := q.uc (by decide) (noP_p (i := 2) hp (by decide) (by decide)) (by rw [cl_row hp]; rfl)
theorem WA.at3 (q : WA h w m b l) {p : Nat} (hp : p < 6) : WA (am_set h (w + 3) (.inl (0, 6, .inl (upd (cl 6 fun p => m (35 + 6 * p)) p v)))) w (upd m (35 + 6 * p) v) b l := q.uc (by decide) (noP_p (i := 3) hp (by decide) (by decide)) (by rw [cl_row hp]; rfl)
theorem WA.go (q : WA h w m b l) {p : Nat} (hp : p < 6) : WA (am_set h (w + 4) (.inl (0, 6, .inl (upd (cl 6 fun p => m (36 + 6 * p)) p v)))) w (upd m (36 + 6 * p) v) b l := q.uc (by decide) (noP_p (i := 4) hp (by decide) (by decide)) (by rw [cl_row hp]; rfl)
theorem WA.ti (q : WA h w m b l) {p : Nat} (hp : p < 6) : WA (am_set h (w + 5) (.inl (0, 6, .inl (upd (cl 6 fun p => m (37 + 6 * p)) p v)))) w (upd m (37 + 6 * p) v) b l := q.uc (by decide) (noP_p (i := 5) hp (by decide) (by decide)) (by rw [cl_row hp]; rfl)
theorem WA.hu (q : WA h w m b l) {p : Nat} (hp : p < 6) : WA (am_set h (w + 6) (.inl (1, 6, .inl (upd (cl 6 fun p => m (38 + 6 * p)) p v)))) w (upd m (38 + 6 * p) v) b l := q.uc (by decide) (noP_p (i := 6) hp (by decide) (by decide)) (by rw [cl_row hp]; rfl)
theorem WA.po (q : WA h w m b l) {p : Nat} (hp : p < 12) : WA (am_set h (w + 7) (.inl (1, 12, .inl (upd (cl 12 fun p => m (21 + p)) p v)))) w (upd m (21 + p) v) b l := q.uc (by decide) (fun j hj z => ⟨by omega, by omega, by omega, by omega, by omega, by omega⟩) (by rw [cl_row1 hp]; rfl)
theorem WA.sl (q : WA h w m b l) {p : Nat} (hp : p < 12) : WA (am_set h (w + 8) (.inl (0, 12, .inl (upd (cl 12 fun p => m (9 + p)) p v)))) w (upd m (9 + p) v) b l := q.uc (by decide) (fun j hj z => ⟨by omega, by omega, by omega, by omega, by omega, by omega⟩) (by rw [cl_row1 hp]; rfl)
theorem WA.de (q : WA h w m b l) {p : Nat} (hp : p < 10) : WA (am_set h (w + 9) (.inl (0, 10, .inl (upd (cl 10 fun p => m (69 + 6 * p)) p v)))) w (upd m (69 + 6 * p) v) b l := q.uc (by decide) (noP_s (i := 9) hp (by decide) (by decide)) (by rw [cl_row hp]; rfl)
theorem WA.le (q : WA h w m b l) {p : Nat} (hp : p < 10) : WA (am_set h (w + 10) (.inl (0, 10, .inl (upd (cl 10 fun p => m (70 + 6 * p)) p v)))) w (upd m (70 + 6 * p) v) b l := q.uc (by decide) (noP_s (i := 10) hp (by decide) (by decide)) (by rw [cl_row hp]; rfl)
theorem WA.we (q : WA h w m b l) {p : Nat} (hp : p < 10) : WA (am_set h (w + 11) (.inl (0, 10, .inl (upd (cl 10 fun p => m (71 + 6 * p)) p v)))) w (upd m (71 + 6 * p) v) b l := q.uc (by decide) (noP_s (i := 11) hp (by decide) (by decide)) (by rw [cl_row hp]; rfl)
theorem WA.st (q : WA h w m b l) {p : Nat} (hp : p < 10) : WA (am_set h (w + 12) (.inl (0, 10, .inl (upd (cl 10 fun p => m (72 + 6 * p)) p v)))) w (upd m (72 + 6 * p) v) b l := q.uc (by decide) (noP_s (i := 12) hp (by decide) (by decide)) (by rw [cl_row hp]; rfl)
theorem WA.by13 (q : WA h w m b l) {p : Nat} (hp : p < 10) : WA (am_set h (w + 13) (.inl (0, 10, .inl (upd (cl 10 b) p v)))) w m (upd b p v) l := by
  intro j hj
  by_cases z : j = 13
  · rw [z, am_set_at, cl_upd hp]; rfl
  · rw [am_set_ne (by omega), q j hj]
    exact congrArg some (wcl_eq hj (fun _ _ => rfl) (fun y => absurd y z) (fun _ => rfl))
/-- a number of the World's object -/
theorem WA.ob (q : WA h w m b l) (hk : k = 0 ∨ k = 3 ∨ k = 4 ∨ k = 5 ∨ k = 6 ∨ k = 7 ∨ k = 8) : WA (am_set h w (.inr (1, wobj w (upd m k v) l))) w (upd m k v) b l := q.uc (i := 0) (by decide) (fun j hj z => ⟨by omega, by omega, by omega, by omega, by omega, by omega⟩) rfl
theorem WA.law (q : WA h w m b l) : WA (am_set h w (.inr (1, wobj w m l'))) w m b l' := by
  intro j hj
  by_cases z : j = 0
  · subst z; exact am_set_at
  · rw [am_set_ne (by omega), q j hj]
    exact congrArg some (wcl_eq hj (fun _ _ => rfl) (fun _ _ _ => rfl) (fun y => absurd y z))
theorem WA.keep (q : WA h w m b l) {P : Nat → Prop} {c s : Nat} (g : HF P c s h h') (hp : ∀ a, P a → a < w ∨ w + 15 ≤ a) : WA h' w m b l := fun j hj => g.k (q j hj) (fun z => by have := hp _ z; omega)
theorem WA.hf (q : WA h w m b l) (hw : HW h) {i : Nat} (hi : i < 15) {x : am_C} : HF (InW w) 0 0 h (am_set h (w + i) x) := (HF.set hw (q i hi)).mono (fun a z => by subst z; exact ⟨by omega, by omega⟩) (Nat.le_refl _) (Nat.le_refl _)
theorem WA.hf2 {h0 : am_H} {c s : Nat} (q : WA h w m b l) (f : HF (InW w) c s h0 h) {i : Nat} (hi : i < 15) {x : am_C} : HF (InW w) c s h0 (am_set h (w + i) x) := HF.setP f (q i hi) ⟨by omega, by omega⟩
theorem wo_0 : am_st (wobj w m l) 0 (.int v) = wobj w (upd m 0 v) l := rfl
theorem wo_1 : am_st (wobj w m l) 1 (.int v) = wobj w (upd m 3 v) l := rfl
theorem wo_2 : am_st (wobj w m l) 2 (.int v) = wobj w (upd m 4 v) l := rfl
theorem wo_3 : am_st (wobj w m l) 3 (.int v) = wobj w (upd m 6 v) l := rfl
theorem wo_4 : am_st (wobj w m l) 4 (.int v) = wobj w (upd m 5 v) l := rfl
theorem wo_5 : am_st (wobj w m l) 5 (.int v) = wobj w (upd m 7 v) l := rfl
theorem wo_6 : am_st (wobj w m l) 6 (.int v) = wobj w (upd m 8 v) l := rfl
theorem wo_21 : am_st (wobj w m l) 21 l' = wobj w m l' := rfl
end
