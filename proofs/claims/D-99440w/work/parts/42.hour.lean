/-! AN HOUR of the system: what the law says of a person, all go, all tire -/
set_option maxRecDepth 100000
def txF (m : Nat → Int32) : Nat → Int32 := fun k => m (369 + k)
/-- the lines of the row's law -/
def lwF (m : Nat → Int32) : List Ln := match lawF (txF m) (m 2).toNatClampNeg with
  | .inr (ls, _) => ls
  | .inl _ => []
/-- what the law is told of person p -/
def fcF (m : Nat → Int32) (p : Nat) : Fc := fun k => if k = 0 then nI p else if k = 1 then loadF m (nI p) else if k = 2 then m (34 + 6 * p) else if k = 3 then m (35 + 6 * p) else if k = 4 then m (9 + (m (35 + 6 * p)).toNatClampNeg) else if k = 5 then m (37 + 6 * p) else if k = 6 then rmF (m 5) 24 else if k = 7 then bI (decide (m (35 + 6 * p) = m (36 + 6 * p))) else bI (decide (loadF m (nI p) = 0))
def tiF (m : Nat → Int32) (p : Nat) : Int32 := if m 1 = -1 then loadF m (nI p) / 4 else lsumF 0 (fcF m p) (lwF m)
def eaF (m : Nat → Int32) (p : Nat) : Int32 := if m 1 = -1 then maxF 0 (10 - loadF m (nI p) / 4) else lsumF 1 (fcF m p) (lwF m)
def huF (m : Nat → Int32) (p : Nat) : Int32 := if m 1 = -1 then maxF 0 (loadF m (nI p) - m (34 + 6 * p)) else minF 100 (lsumF 2 (fcF m p) (lwF m))
def goF (m : Nat → Int32) (p : Nat) : Nat → Int32 := if m (35 + 6 * p) = m (36 + 6 * p) then upd m (33 + 6 * p) (minF 9999 (m (33 + 6 * p) + eaF m p)) else if bowF m p = true then m else wkF m p
def goN (m : Nat → Int32) : Nat → Nat → Int32
  | 0 => m
  | p + 1 => goF (goN m p) p
def trF (m : Nat → Int32) (p : Nat) : Nat → Int32 := upd m (37 + 6 * p) (minF 99 (m (37 + 6 * p) + tiF m p))
def tirF (dr : Bool) (c : Int32) (m : Nat → Int32) (p : Nat) : Int32 × (Nat → Int32) :=
  if ¬ m (38 + 6 * p) = 0 then (c, m) else if dr = false then (c, trF m p) else if huF (upd (trF m p) 8 (sdF (trF m p))) p ≤ drF (sdF (trF m p)) then (c, upd (trF m p) 8 (sdF (trF m p))) else (c + 1, upd (upd (trF m p) 8 (sdF (trF m p))) (38 + 6 * p) 1)
def tirN (dr : Bool) (m : Nat → Int32) : Nat → Int32 × (Nat → Int32)
  | 0 => (0, m)
  | p + 1 => tirF dr (tirN dr m p).1 (tirN dr m p).2 p
def hourF (dr : Bool) (m : Nat → Int32) : Int32 × (Nat → Int32) := ((tirN dr (goN m (nP m)) (nP m)).1, endF (tirN dr (goN m (nP m)) (nP m)).2)
theorem isB.v {x : Int32} {n : Nat} (q : isB x n) : ∃ k : Nat, k < n ∧ x = nI k := q
section
variable {m b : Nat → Int32} {k : Nat} {x : Int32}
theorem VR.u (v : VR m) (hk : (k = 5 ∨ k = 6 ∨ k = 8 ∨ 129 ≤ k) ∨ (9 ≤ k ∧ k < 21 ∧ isB x 4) ∨ (21 ≤ k ∧ k < 33 ∧ isB x 2) ∨ (33 ≤ k ∧ k < 69 ∧ ((k - 33) % 6 = 2 ∨ (k - 33) % 6 = 3 → isB x 12) ∧ ((k - 33) % 6 = 5 → isB x 2)) ∨ (69 ≤ k ∧ k < 129 ∧ (k - 69) % 6 = 2 ∧ isB x 41 ∧ x ≠ 0)) : VR (upd m k x) := by
  obtain ⟨⟨⟨v1, v2⟩, ⟨v3, v4⟩, v5, v6⟩, ⟨v7, v8⟩, v9, v10, v11⟩ := v
  have e3 : upd m k x 3 = m 3 := upd_ne (by omega)
  have e4 : upd m k x 4 = m 4 := upd_ne (by omega)
  have e7 : upd m k x 7 = m 7 := upd_ne (by omega)
  have eP : nP (upd m k x) = nP m := by unfold nP; rw [e3]
  have eS : nS (upd m k x) = nS m := by unfold nS; rw [e4]
  have eL : nL (upd m k x) = nL m := by unfold nL; rw [e7]
  have key : ∀ (i : Nat) (Φ : Int32 → Prop), Φ (m i) → (i = k → Φ x) → Φ (upd m k x i) := fun i Φ h1 h2 => by
    by_cases z : i = k
    · rw [z, upd_eq]; exact h2 z
    · rw [upd_ne z]; exact h1
  unfold VR
  rw [e3, e4, e7, eP, eS, eL, upd_ne (show 0 ≠ k by omega), upd_ne (show 1 ≠ k by omega)]
  refine ⟨⟨⟨v1, v2⟩, ⟨v3, v4⟩, v5, v6⟩, ⟨v7, v8⟩, fun q hq => ⟨key _ (fun y => isB y 4) (v9 q hq).1 (fun z => ?_), key _ (fun y => isB y 2) (v9 q hq).2 (fun z => ?_)⟩, fun p hp => ⟨key _ (fun y => isB y 12) (v10 p hp).1 (fun z => ?_), key _ (fun y => isB y 12) (v10 p hp).2.1 (fun z => ?_), key _ (fun y => isB y 2) (v10 p hp).2.2 (fun z => ?_)⟩, fun s hs => ?_⟩
  · rcases hk with h | ⟨_, _, h⟩ | h | h | h <;> first | exact h | omega
  · rcases hk with h | h | ⟨_, _, h⟩ | h | h <;> first | exact h | omega
  · rcases hk with h | h | h | ⟨_, _, h, _⟩ | h <;> first | exact h (Or.inl (by omega)) | omega
  · rcases hk with h | h | h | ⟨_, _, h, _⟩ | h <;> first | exact h (Or.inr (by omega)) | omega
  · rcases hk with h | h | h | ⟨_, _, _, h⟩ | h <;> first | exact h (by omega) | omega
  · obtain ⟨w1, w2, w3, w4, w5, w6⟩ := v11 s hs
    rw [upd_ne (show 69 + 6 * s ≠ k by omega), upd_ne (show 70 + 6 * s ≠ k by omega), upd_ne (show 72 + 6 * s ≠ k by omega), upd_ne (show 73 + 6 * s ≠ k by omega), upd_ne (show 74 + 6 * s ≠ k by omega)]
    exact ⟨w1, w2, key _ (fun y => isB y 41 ∧ y ≠ 0) w3 (fun z => by rcases hk with h | h | h | h | ⟨_, _, _, h⟩ <;> first | exact h | omega), w4, w5, w6⟩
theorem BY.u (v : BY b m) (h10 : nS m ≤ 10) (hk : k ≠ 4 ∧ (k < 69 ∨ 129 ≤ k ∨ (k - 69) % 6 < 3)) : BY b (upd m k x) := by
  intro s hs
  have eS : nS (upd m k x) = nS m := by unfold nS; rw [upd_ne (by omega)]
  rw [eS] at hs
  by_cases z : 72 + 6 * s = k ∨ 73 + 6 * s = k ∨ 74 + 6 * s = k
  · omega
  · rw [upd_ne (by omega), upd_ne (by omega), upd_ne (by omega)]
    exact v s hs
end
/-- the row that a World holds is so that its law's object says what the row's text says -/
def LO (G : am_G) (bs : Nat) (h : am_H) (S : Nat → Prop) (m : Nat → Int32) (l : Value) : Prop := (m 1 = -1 ∧ l = .null) ∨ (m 1 ≠ -1 ∧ ∃ a, l = .ref a ∧ LwA G bs h S a (lwF m))
def sobj (s : Nat → Int32) : List Value := [.int (s 0), .int (s 1), .int (s 2), .int (s 3), .int (s 4), .int (s 5), .int (s 6), .int (s 7)]
/-- what an hour writes: the World at w, the scene -/
def HP (w x : Nat) : Nat → Prop := fun a => InW w a ∨ a = x + 48
/-- the World at w under the system at x -/
def HS (G : am_G) (bs x w : Nat) (S : Nat → Prop) (hi : Bool) (h : am_H) (m b : Nat → Int32) (l : Value) : Prop := WA h w m b l ∧ VR m ∧ BY b m ∧ LO G bs h S m l ∧ HW h ∧ OG G bs h ∧ h.1 x = some (.inr (0, xobj x hi)) ∧ (∃ s, h.1 (x + 48) = some (.inr (3, sobj s)))
/-- where they lie -/
def GEO (bs x w : Nat) (S : Nat → Prop) : Prop := bs ≤ x ∧ bs ≤ w ∧ (w + 15 ≤ x ∨ x + 48 < w ∨ (x < w ∧ w + 15 ≤ x + 48)) ∧ ∀ z, S z → ¬ HP w x z
theorem lwF_congr {m m' : Nat → Int32} (h2 : m' 2 = m 2) (ht : ∀ k, 369 ≤ k → m' k = m k) : lwF m' = lwF m := by
  have : txF m' = txF m := by funext k; exact ht _ (by omega)
  unfold lwF
  rw [this, h2]
section
variable {G : am_G} {bs x w : Nat} {S : Nat → Prop} {hi : Bool} {h h' : am_H} {m m' b b' : Nat → Int32} {l : Value}
theorem LO.keep (q : LO G bs h S m l) (k : SK S h h') (h1 : m' 1 = m 1) (h2 : m' 2 = m 2) (ht : ∀ k, 369 ≤ k → m' k = m k) : LO G bs h' S m' l := by
  have e := lwF_congr h2 ht
  rcases q with ⟨q1, q2⟩ | ⟨q1, a, q2, q3⟩
  · exact Or.inl ⟨h1.trans q1, q2⟩
  · exact Or.inr ⟨by rw [h1]; exact q1, a, q2, by rw [e]; exact q3.keep k (fun _ z => z)⟩
theorem HS.step (q : HS G bs x w S hi h m b l) (g : GEO bs x w S) {c s : Nat} (f : HF (HP w x) c s h h') (wa : WA h' w m' b' l) (v : VR m') (y : BY b' m') (h1 : m' 1 = m 1) (h2 : m' 2 = m 2) (ht : ∀ k, 369 ≤ k → m' k = m k) (hsc : ∃ s, h'.1 (x + 48) = some (.inr (3, sobj s))) : HS G bs x w S hi h' m' b' l := by
  obtain ⟨q1, q2, q3, q4, q5, q6, q7, q8⟩ := q
  obtain ⟨g1, g2, g3, g4⟩ := g
  refine ⟨wa, v, y, q4.keep (f.sk (fun a z => g4 a z)) h1 h2 ht, f.w, q6.keep f (fun a z => ?_), f.k q7 (fun z => ?_), hsc⟩
  · rcases z with z | z
    · exact Nat.le_trans g2 z.1
    · omega
  · rcases z with z | z
    · have := z.1; have := z.2; omega
    · omega
theorem fc_sc (m : Nat → Int32) (p : Nat) : (fcF m p 7 = 0 ∨ fcF m p 7 = 1) ∧ (fcF m p 8 = 1 ↔ fcF m p 1 = 0) := by
  refine ⟨bI_01 _, ?_⟩
  show bI (decide (loadF m (nI p) = 0)) = 1 ↔ loadF m (nI p) = 0
  by_cases z : loadF m (nI p) = 0
  · rw [decide_eq_true z]; exact ⟨fun _ => z, fun _ => rfl⟩
  · rw [decide_eq_false z]; exact ⟨fun y => absurd y (by decide), fun y => absurd y z⟩
/-- the law asked for person p -/
theorem c_by (q : HS G bs x w S hi h m b l) (g : GEO bs x w S) {p k kd a : Nat} (hp : p < nP m) (hk : k < 3) (hkd : G (gk k) = .ref kd) (hl : l = .ref a) (lw : LwA G bs h S a (lwF m)) : Ev G 41 m_X1_by [.ref x, .ref w, .ref kd, .int (nI p)] h (fun v h' => v = .int (lsumF k (fcF m p) (lwF m)) ∧ HF (isR (x + 48)) 0 0 h h' ∧ ∃ s, h'.1 (x + 48) = some (.inr (3, sobj s))) := by
  obtain ⟨q1, q2, q3, q4, q5, q6, q7, s0, q8⟩ := q
  obtain ⟨g1, g2, g3, g4⟩ := g
  have hp6 : p < 6 := by have := q2.pp.2; omega
  obtain ⟨⟨pl, hpl, epl⟩, -, -⟩ := q2.pe p hp
  have ecl : (m (35 + 6 * p)).toNatClampNeg = pl := by rw [epl]; exact nI_clamp (by omega)
  have nsx : x + 48 ≠ x := by omega
  have nsw : ∀ i, i < 15 → w + i ≠ x + 48 := fun i hi => by omega
  have xk : ∀ {e : am_C}, (am_set h (x + 48) e).1 x = some (.inr (0, xobj x hi)) := fun {e} => am_set_k q7 (Ne.symm nsx)
  have wk : ∀ {e : am_C}, WA (am_set h (x + 48) e) w m b l := fun {e} i hi => am_set_k (q1 i hi) (nsw i hi)
  have o0 := wa_o q1
  subst hl
  refine wc_in mt_X1_by rfl (L := [.ref x, .ref w, .ref kd, .int (nI p)]) rfl ?_
  refine r_aload_0 rfl ?_
  refine r_getf rfl q7 rfl ?_
  refine r_iload_3 rfl ?_
  refine r_puti rfl q8 rfl ?_
  refine r_aload_0 rfl ?_
  refine r_getf rfl xk rfl ?_
  refine r_aload_1 rfl ?_
  refine r_iload_3 rfl ?_
  refine r_invvP_1 rfl (wa_o wk) rfl rfl (e := 2) (by decide) (c_load wk q2 q3 _) ?_
  refine r_puti rfl am_set_at rfl ?_
  rw [am_set_set]
  refine r_aload_0 rfl ?_
  refine r_getf rfl xk rfl ?_
  refine r_aload_1 rfl ?_
  refine r_getf rfl (wa_o wk) rfl ?_
  refine r_iload_3 rfl ?_
  refine r_iald rfl (wa_ba wk) rfl hp6 (by decide) ?_
  rw [cl_in hp6]
  refine r_puti rfl am_set_at rfl ?_
  rw [am_set_set]
  refine r_aload_0 rfl ?_
  refine r_getf rfl xk rfl ?_
  refine r_aload_1 rfl ?_
  refine r_getf rfl (wa_o wk) rfl ?_
  refine r_iload_3 rfl ?_
  refine r_iald rfl (wa_at wk) rfl hp6 (by decide) ?_
  rw [cl_in hp6]
  refine r_puti rfl am_set_at rfl ?_
  rw [am_set_set]
  refine r_aload_0 rfl ?_
  refine r_getf rfl xk rfl ?_
  refine r_aload_1 rfl ?_
  refine r_getf rfl (wa_o wk) rfl ?_
  refine r_aload_1 rfl ?_
  refine r_getf rfl (wa_o wk) rfl ?_
  refine r_iload_3 rfl ?_
  refine r_iald rfl (wa_at wk) rfl hp6 (by decide) ?_
  rw [cl_in hp6]
  refine r_iald rfl (wa_sl wk) epl hpl (by decide) ?_
  rw [cl_in hpl]
  refine r_puti rfl am_set_at rfl ?_
  rw [am_set_set]
  refine r_aload_0 rfl ?_
  refine r_getf rfl xk rfl ?_
  refine r_aload_1 rfl ?_
  refine r_getf rfl (wa_o wk) rfl ?_
  refine r_iload_3 rfl ?_
  refine r_iald rfl (wa_ti wk) rfl hp6 (by decide) ?_
  rw [cl_in hp6]
  refine r_puti rfl am_set_at rfl ?_
  rw [am_set_set]
  refine r_aload_0 rfl ?_
  refine r_getf rfl xk rfl ?_
  refine r_aload_1 rfl ?_
  refine r_getf rfl (wa_o wk) rfl ?_
  refine r_push rfl ?_
  refine r_irem rfl (by decide) ?_
  refine r_puti rfl am_set_at rfl ?_
  rw [am_set_set]
  refine r_aload_0 rfl ?_
  refine r_getf rfl xk rfl ?_
  refine r_aload_1 rfl ?_
  refine r_getf rfl (wa_o wk) rfl ?_
  refine r_iload_3 rfl ?_
  refine r_iald rfl (wa_at wk) rfl hp6 (by decide) ?_
  rw [cl_in hp6]
  refine r_aload_1 rfl ?_
  refine r_getf rfl (wa_o wk) rfl ?_
  refine r_iload_3 rfl ?_
  refine r_iald rfl (wa_go wk) rfl hp6 (by decide) ?_
  rw [cl_in hp6]
  have fin : ∀ (b7 : Bool), decide (m (35 + 6 * p) = m (36 + 6 * p)) = b7 → Wp G 41 mt_X1_by 115 [.ref x, .ref w, .ref kd, .int (nI p)] [.int (bI b7), .ref (x + 48)] (am_set h (x + 48) (.inr (3, [.int (nI p), .int (loadF m (nI p)), .int (m (34 + 6 * p)), .int (m (35 + 6 * p)), .int (m (9 + pl)), .int (m (37 + 6 * p)), .int (m 5 - m 5 / 24 * 24), .int (s0 7)]))) (fun R => ∃ v h', R = .inl (some v, h') ∧ v = .int (lsumF k (fcF m p) (lwF m)) ∧ HF (isR (x + 48)) 0 0 h h' ∧ ∃ s, h'.1 (x + 48) = some (.inr (3, sobj s))) := by
    intro b7 hb7
    have f1 : HF (isR (x + 48)) 0 0 h (am_set h (x + 48) (.inr (3, [.int (nI p), .int (loadF m (nI p)), .int (m (34 + 6 * p)), .int (m (35 + 6 * p)), .int (m (9 + pl)), .int (m (37 + 6 * p)), .int (m 5 - m 5 / 24 * 24), .int (bI b7)]))) := HF.set q5 q8
    refine r_putz rfl am_set_at (bI_01 _) rfl ?_
    rw [am_set_set]
    have sc : SC (am_set h (x + 48) (.inr (3, [.int (nI p), .int (loadF m (nI p)), .int (m (34 + 6 * p)), .int (m (35 + 6 * p)), .int (m (9 + pl)), .int (m (37 + 6 * p)), .int (m 5 - m 5 / 24 * 24), .int (bI b7)]))) (x + 48) (fcF m p) := by
      refine ⟨?_, fc_sc m p⟩
      rw [← hb7, ← ecl]
      exact am_set_at
    have lw1 := lw.keep (f1.sk (fun z zs y => g4 z zs (Or.inr y))) (fun _ z => z)
    have og1 := q6.keep f1 (fun z y => by simp only [isR] at y; omega)
    refine r_aload_1 rfl ?_
    refine r_getf rfl (wa_o wk) rfl ?_
    refine r_aload_2 rfl ?_
    refine r_aload_0 rfl ?_
    refine r_getf rfl xk rfl ?_
    obtain ⟨lw9, la9, xs9, lo9, -⟩ := id lw1
    refine r_invvP_2 rfl lo9 rfl rfl (by decide) (c_lawSum og1.2.2.2.2.1 sc lw1 hk hkd) ?_
    refine r_iret rfl ?_
    refine ⟨_, _, rfl, rfl, f1, ?_⟩
    exact ⟨fun i => if i = 0 then nI p else if i = 1 then loadF m (nI p) else if i = 2 then m (34 + 6 * p) else if i = 3 then m (35 + 6 * p) else if i = 4 then m (9 + pl) else if i = 5 then m (37 + 6 * p) else if i = 6 then m 5 - m 5 / 24 * 24 else bI b7, am_set_at⟩
  refine r_icne rfl (fun c => ?_) (fun c => ?_)
  · refine r_push rfl ?_
    exact fin false (decide_eq_false c)
  · refine r_push rfl ?_
    refine r_goto rfl ?_
    exact fin true (decide_eq_true c)
end
