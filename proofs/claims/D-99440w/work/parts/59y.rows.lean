/-! ROWS that can be: the log told, a stone's state -/
set_option maxRecDepth 100000
theorem VR.same {m m' : Nat → Int32} (v : VR m) (e : ∀ k, k < 129 → k ≠ 7 → m' k = m k) (h7 : m' 7 = nI (nL m') ∧ nL m' ≤ 60) : VR m' := by
  have e3 := e 3 (by decide) (by decide)
  have e4 := e 4 (by decide) (by decide)
  have eP : nP m' = nP m := by unfold nP; rw [e3]
  have eS : nS m' = nS m := by unfold nS; rw [e4]
  have hP := v.pp.2
  have hS := v.ss.2
  obtain ⟨⟨v1, v2, v3⟩, ⟨v4, v5⟩, v6, v7, v8⟩ := v
  refine ⟨⟨by rw [e3, eP]; exact v1, by rw [e4, eS]; exact v2, h7⟩, ⟨by rw [e 0 (by decide) (by decide)]; exact v4, by rw [e 1 (by decide) (by decide)]; exact v5⟩, fun q hq => ?_, fun p hp => ?_, fun s hs => ?_⟩
  · rw [e (9 + q) (by omega) (by omega), e (21 + q) (by omega) (by omega)]; exact v6 q hq
  · rw [eP] at hp
    rw [e (35 + 6 * p) (by omega) (by omega), e (36 + 6 * p) (by omega) (by omega), e (38 + 6 * p) (by omega) (by omega)]; exact v7 p hp
  · rw [eS] at hs
    rw [eP, e (69 + 6 * s) (by omega) (by omega), e (70 + 6 * s) (by omega) (by omega), e (71 + 6 * s) (by omega) (by omega), e (72 + 6 * s) (by omega) (by omega), e (73 + 6 * s) (by omega) (by omega), e (74 + 6 * s) (by omega) (by omega)]; exact v8 s hs
theorem VR.tl {m : Nat → Int32} (v : VR m) (z w n : Int32) : VR (tlF m z w n) := by
  refine v.same (fun k hk h7 => ?_) ?_
  · unfold tlF
    rw [if_neg h7, if_neg (by omega), if_neg (by omega), if_neg (by omega), if_neg (by omega), if_neg (by omega)]
  · have e : tlF m z w n 7 = minF 60 (m 7 + 1) := by unfold tlF; rw [if_pos rfl]
    obtain ⟨h1, h2⟩ := v.lo
    have e2 : tlF m z w n 7 = nI (min 60 (nL m + 1)) := by rw [e, h1, nI_1, show (60 : Int32) = nI 60 from rfl, minF_nI (by decide) (by omega)]
    have e3 : nL (tlF m z w n) = min 60 (nL m + 1) := by unfold nL at *; rw [e2]; exact nI_clamp (by omega)
    rw [e3]
    exact ⟨e2, by omega⟩
theorem BY.same {m m' b : Nat → Int32} (v : BY b m) (e : ∀ k, 69 ≤ k → k < 129 → m' k = m k) (e4 : nS m' = nS m) (h : nS m ≤ 10) : BY b m' := fun s hs => by
  rw [e4] at hs
  have := v s hs
  rw [e (72 + 6 * s) (by omega) (by omega), e (73 + 6 * s) (by omega) (by omega), e (74 + 6 * s) (by omega) (by omega)]
  exact this
/-- a row whose stone changes its state -/
theorem VR.stone {m : Nat → Int32} (v : VR m) {s : Nat} (hs : s < nS m) {st br at_ : Int32} (h1 : isB st 3) (h2 : st = 0 → isB br (nP m)) (h3 : st = 1 → isB at_ 12) : VR (upd (upd (upd m (72 + 6 * s) st) (73 + 6 * s) br) (74 + 6 * s) at_) := by
  have hS := v.ss.2
  have e : ∀ k, k ≠ 72 + 6 * s → k ≠ 73 + 6 * s → k ≠ 74 + 6 * s → upd (upd (upd m (72 + 6 * s) st) (73 + 6 * s) br) (74 + 6 * s) at_ k = m k := fun k a b c => by rw [upd_ne c, upd_ne b, upd_ne a]
  have e72 : upd (upd (upd m (72 + 6 * s) st) (73 + 6 * s) br) (74 + 6 * s) at_ (72 + 6 * s) = st := by rw [upd_ne (by omega), upd_ne (by omega), upd_eq]
  have e73 : upd (upd (upd m (72 + 6 * s) st) (73 + 6 * s) br) (74 + 6 * s) at_ (73 + 6 * s) = br := by rw [upd_ne (by omega), upd_eq]
  have e74 : upd (upd (upd m (72 + 6 * s) st) (73 + 6 * s) br) (74 + 6 * s) at_ (74 + 6 * s) = at_ := upd_eq
  generalize upd (upd (upd m (72 + 6 * s) st) (73 + 6 * s) br) (74 + 6 * s) at_ = m' at *
  have e3 := e 3 (by omega) (by omega) (by omega)
  have e4 := e 4 (by omega) (by omega) (by omega)
  have eP : nP m' = nP m := by unfold nP; rw [e3]
  have eS : nS m' = nS m := by unfold nS; rw [e4]
  have eL : nL m' = nL m := by unfold nL; rw [e 7 (by omega) (by omega) (by omega)]
  have hP := v.pp.2
  obtain ⟨⟨v1, v2, v3⟩, ⟨v4, v5⟩, v6, v7, v8⟩ := v
  refine ⟨⟨by rw [e3, eP]; exact v1, by rw [e4, eS]; exact v2, by rw [e 7 (by omega) (by omega) (by omega), eL]; exact v3⟩, ⟨by rw [e 0 (by omega) (by omega) (by omega)]; exact v4, by rw [e 1 (by omega) (by omega) (by omega)]; exact v5⟩, fun q hq => ?_, fun p hp => ?_, fun r hr => ?_⟩
  · rw [e (9 + q) (by omega) (by omega) (by omega), e (21 + q) (by omega) (by omega) (by omega)]; exact v6 q hq
  · rw [eP] at hp
    rw [e (35 + 6 * p) (by omega) (by omega) (by omega), e (36 + 6 * p) (by omega) (by omega) (by omega), e (38 + 6 * p) (by omega) (by omega) (by omega)]; exact v7 p hp
  · rw [eS] at hr
    obtain ⟨w1, w2, w3, w4, w5, w6⟩ := v8 r hr
    rw [eP, e (69 + 6 * r) (by omega) (by omega) (by omega), e (70 + 6 * r) (by omega) (by omega) (by omega), e (71 + 6 * r) (by omega) (by omega) (by omega)]
    by_cases c : r = s
    · subst c
      rw [e72, e73, e74]
      exact ⟨w1, w2, w3, h1, h2, h3⟩
    · rw [e (72 + 6 * r) (by omega) (by omega) (by omega), e (73 + 6 * r) (by omega) (by omega) (by omega), e (74 + 6 * r) (by omega) (by omega) (by omega)]
      exact ⟨w1, w2, w3, w4, w5, w6⟩
