/-! ACTS of the system: goal, rest -/
set_option maxRecDepth 100000
/-- what an act writes -/
def RP1 (x : Nat) (S : Nat → Prop) : Nat → Prop := fun a => HP (x + 1) x a ∨ RP x S a
/-- a row's law and its limits stay -/
def AGR (m m' : Nat → Int32) : Prop := (m' 1 = m 1 ∧ m' 2 = m 2 ∧ ∀ k, 369 ≤ k → m' k = m k) ∧ ∀ k, (k = 3 ∨ k = 6 ∨ (33 ≤ k ∧ k < 69 ∧ (k - 33) % 6 = 1)) → m' k = m k
def XW (G : am_G) (bs x : Nat) (S : Nat → Prop) (hi : Bool) (h : am_H) (l : Value) (ws : List (Nat × (Nat → Int32))) (m m' : Nat → Int32) (h' : am_H) : Prop := ∃ a b', HS G bs x (x + 1) S hi h' m' b' l ∧ WB G bs x S h' l m (remW ws ++ [(a, m)]) ∧ HF (RP1 x S) 20 1600 h h' ∧ AGR m m'
abbrev Xa (G : am_G) (d k : Nat) (As : List Value) (bs x : Nat) (S : Nat → Prop) (hi : Bool) (h : am_H) (l : Value) (ws : List (Nat × (Nat → Int32))) (m m' : Nat → Int32) (r : Nat × Int32) (cls : Nat → Nat) : Prop := Et G d k As h (fun v h' => r.1 = 0 ∧ v = .int r.2 ∧ XW G bs x S hi h l ws m m' h') (QX h r cls)
theorem BY.ad {b m : Nat → Int32} (y : BY b m) {s : Nat} (e4 : m 4 = nI s) (hs : s < 10) {a c n w : Int32} : BY (upd b s w) (adF m a c n w) := by
  obtain ⟨z1, z2, z3, z4, z5, z6, z7⟩ := ad_at (a := a) (c := c) (n := n) (w := w) e4 hs
  have eS : nS (adF m a c n w) = s + 1 := by unfold nS; rw [z7]; exact nI_clamp (by omega)
  have eS0 : nS m = s := by unfold nS; rw [e4]; exact nI_clamp (by omega)
  intro r hr
  rw [eS] at hr
  by_cases k : r = s
  · subst k
    rw [upd_eq, z5]
    exact ⟨fun _ => rfl, fun z => absurd (z4.symm.trans z) (by decide)⟩
  · rw [upd_ne k, ad_lo e4 hs (by omega) (by omega), ad_lo e4 hs (by omega) (by omega), ad_lo e4 hs (by omega) (by omega)]
    exact y r (by omega)
theorem BY.paid {b m : Nat → Int32} (y : BY b m) {z : Nat} (hS : nS m ≤ 10) : BY b (upd m (72 + 6 * z) 2) := by
  have eS : nS (upd m (72 + 6 * z) 2) = nS m := by unfold nS; rw [upd_ne (by omega)]
  intro r hr
  rw [eS] at hr
  by_cases k : r = z
  · subst k
    rw [upd_eq]
    exact ⟨fun e => absurd e (by decide), fun e => absurd e (by decide)⟩
  · rw [upd_ne (by omega), upd_ne (by omega), upd_ne (by omega)]
    exact y r hr
theorem BY.mv {b m : Nat → Int32} (y : BY b m) {a c : Nat} (ha : a < 6) (hc : c < 6) {n : Int32} (hS : nS m ≤ 10) : BY b (mvF m a c n) := y.same (fun k h1 h2 => mv_lo ha hc (by omega)) (by unfold nS; rw [mv_lo ha hc (by omega)]) hS
theorem BY.tl {b m : Nat → Int32} (y : BY b m) {z w n : Int32} (hS : nS m ≤ 10) : BY b (tlF m z w n) := y.same (fun k h1 h2 => tl_lo h2 (by omega)) (by unfold nS; rw [tl_lo (by decide) (by decide)]) hS
/-- a stone's state, and where it is then -/
theorem BY.st {b m m' : Nat → Int32} (y : BY b m) {s : Nat} {v : Int32} (hS : nS m ≤ 10) (e : ∀ k, 69 ≤ k → k < 129 → (k < 69 + 6 * s ∨ 75 + 6 * s ≤ k) → m' k = m k) (e4 : m' 4 = m 4) (h0 : m' (72 + 6 * s) = 0 → v = m' (73 + 6 * s)) (h1 : m' (72 + 6 * s) = 1 → v = m' (74 + 6 * s)) : BY (upd b s v) m' := by
  have eS : nS m' = nS m := by unfold nS; rw [e4]
  intro r hr
  rw [eS] at hr
  by_cases k : r = s
  · subst k
    rw [upd_eq]
    exact ⟨h0, h1⟩
  · rw [upd_ne k, e _ (by omega) (by omega) (by omega), e _ (by omega) (by omega) (by omega), e _ (by omega) (by omega) (by omega)]
    exact y r hr
section
variable {G : am_G} {bs x : Nat} {S : Nat → Prop} {hi : Bool} {h h1 h2 : am_H} {m m' b b' : Nat → Int32} {l : Value} {ws ws' : List (Nat × (Nat → Int32))} {a : Nat}
theorem xw_fin (gx : bs ≤ x) (sg : SG bs x S h) (K : HS G bs x (x + 1) S hi h1 m b l) (W : WB G bs x S h1 l m (remW ws ++ [(a, m)])) (F1 : HF (RP x S) 20 1600 h h1) (F2 : HF (InW (x + 1)) 0 0 h1 h2) (wa : WA h2 (x + 1) m' b' l) (v : VR m') (y : BY b' m') (k1 : m' 1 = m 1) (k2 : m' 2 = m 2) (kt : ∀ k, 369 ≤ k → m' k = m k) (kb : ∀ k, (k = 3 ∨ k = 6 ∨ (33 ≤ k ∧ k < 69 ∧ (k - 33) % 6 = 1)) → m' k = m k) : XW G bs x S hi h l ws m m' h2 :=
  ⟨a, b', K.wb (geo gx sg (by omega)) F2 wa v y k1 k2 kt, W.kp F2 (fun z hz => by unfold InW at hz; omega), (HF.trans (F1.mono (fun z hz => Or.inr hz) (Nat.le_refl _) (Nat.le_refl _)) (F2.mono (fun z hz => Or.inl (Or.inl hz)) (Nat.le_refl _) (Nat.le_refl _))).mono (fun _ z => z) (Nat.le_refl _) (Nat.le_refl _), ⟨k1, k2, kt⟩, kb⟩
theorem c_xGoal (q : HS G bs x (x + 1) S hi h m b l) (gx : bs ≤ x) (sg : SG bs x S h) (hn : x + 98 ≤ h.2.1) (wb : WB G bs x S h l m ws) (lb : LB m) (p t : Int32) : Xa G 12 m_X1_goal [.ref x, .int p, .int t] bs x S hi h l ws m (gRow m p t) (qGoal m p t) (k2 20 20) := by
  have Q := q
  obtain ⟨q1, v, yb, q4, q5, q6, o, s0, q8⟩ := q
  refine wc_in mt_X1_goal rfl (L := [.ref x, .int p, .int t, am_un]) rfl ?_
  refine r_aload_0 rfl ?_
  refine r_iload_1 rfl ?_
  unfold qGoal
  cases e1 : inF p 0 (m 3 - 1) with
  | false =>
    rw [if_pos rfl]
    refine r_invvX rfl rfl o rfl rfl rfl (by decide) (c_personAtF o q1 e1) ?_
    exact Or.inr ⟨_, _, rfl, by decide, rfl, rfl⟩
  | true =>
    rw [if_neg (by decide)]
    refine r_invvO rfl rfl o rfl rfl (by decide) (c_personAtT o q1 e1) ?_
    refine r_iload_2 rfl ?_
    cases e2 : inF t 0 11 with
    | false =>
      rw [if_pos rfl]
      refine r_invX rfl rfl rfl rfl (by decide) (c_placeAtF e2) ?_
      exact Or.inr ⟨_, _, rfl, by decide, rfl, rfl⟩
    | true =>
      rw [if_neg (by decide)]
      refine r_invO rfl rfl rfl (by decide) (c_placeAtT e2) ?_
      rw [v.pp.1] at e1
      obtain ⟨i, hi6, rfl⟩ := inF_nI (by have := v.pp.2; omega) e1
      obtain ⟨j, hj, rfl⟩ := inF_nI (n := 12) (by decide) e2
      have hi9 : i < 6 := by have := v.pp.2; omega
      rw [nI_clamp (show i < 2 ^ 31 by omega)]
      unfold gRow
      rw [nI_clamp (show i < 2 ^ 31 by omega)]
      refine r_aload_0 rfl ?_
      refine r_invvF rfl rfl o rfl rfl (by decide) (c_xRem Q gx sg hn wb lb) ?_
      rintro h1 ⟨a, K, W, F1⟩
      have K1 := K
      obtain ⟨k1, -, -, -, k5, -, k7, -⟩ := K1
      have g1 := wa_go k1; have g0 := wa_o k1
      refine r_aload_0 rfl ?_
      refine r_getf rfl (by assumption) (by rfl) ?_
      refine r_getf rfl (by assumption) (by rfl) ?_
      refine r_iload_1 rfl ?_
      refine r_iald rfl (g1) (by rfl) (hi9) (by first | decide | omega) ?_
      rw [cl_in hi9]
      refine r_istore_3 rfl ?_
      refine r_aload_0 rfl ?_
      refine r_getf rfl (by assumption) (by rfl) ?_
      refine r_getf rfl (by assumption) (by rfl) ?_
      refine r_iload_1 rfl ?_
      refine r_iload_2 rfl ?_
      refine r_iast rfl (g1) (by rfl) (hi9) (by first | decide | omega) ?_
      refine r_iload_3 rfl ?_
      refine r_iret rfl ?_
      exact Or.inl ⟨_, _, rfl, rfl, rfl, xw_fin gx sg K W F1 (k1.hf k5 (i := 4) (by decide)) (k1.go hi9) (v.u (Or.inr (Or.inr (Or.inr (Or.inl ⟨by omega, by omega, fun _ => ⟨j, hj, rfl⟩, fun z => by omega⟩))))) (yb.u v.ss.2 (by omega)) (upd_ne (by omega)) (upd_ne (by omega)) (fun k hk => upd_ne (by omega)) (fun k hk => upd_ne (by omega))⟩
theorem c_xRest (q : HS G bs x (x + 1) S hi h m b l) (gx : bs ≤ x) (sg : SG bs x S h) (hn : x + 98 ≤ h.2.1) (wb : WB G bs x S h l m ws) (lb : LB m) (p : Int32) : Xa G 12 m_X1_rest [.ref x, .int p] bs x S hi h l ws m (rRow m p) (qRest m p) (k2 20 20) := by
  have Q := q
  obtain ⟨q1, v, yb, q4, q5, q6, o, s0, q8⟩ := q
  refine wc_in mt_X1_rest rfl (L := [.ref x, .int p, am_un]) rfl ?_
  refine r_aload_0 rfl ?_
  refine r_iload_1 rfl ?_
  unfold qRest
  cases e1 : inF p 0 (m 3 - 1) with
  | false =>
    rw [if_pos rfl]
    refine r_invvX rfl rfl o rfl rfl rfl (by decide) (c_personAtF o q1 e1) ?_
    exact Or.inr ⟨_, _, rfl, by decide, rfl, rfl⟩
  | true =>
    rw [if_neg (by decide)]
    refine r_invvO rfl rfl o rfl rfl (by decide) (c_personAtT o q1 e1) ?_
    rw [v.pp.1] at e1
    obtain ⟨i, hi6, rfl⟩ := inF_nI (by have := v.pp.2; omega) e1
    have hi9 : i < 6 := by have := v.pp.2; omega
    unfold rRow
    rw [nI_clamp (show i < 2 ^ 31 by omega)]
    refine r_aload_0 rfl ?_
    refine r_invvF rfl rfl o rfl rfl (by decide) (c_xRem Q gx sg hn wb lb) ?_
    rintro h1 ⟨a, K, W, F1⟩
    have K1 := K
    obtain ⟨k1, -, -, -, k5, -, k7, -⟩ := K1
    have g1 := wa_ti k1; have g0 := wa_o k1
    have k2 := k1.ti (p := i) (v := 0) hi9
    have f2 := k1.hf k5 (i := 5) (x := .inl (0, 6, .inl (upd (cl 6 fun p => m (37 + 6 * p)) i 0))) (by decide)
    have o2 := f2.k k7 (by unfold InW; omega)
    have g2 := wa_o k2; have g3 := wa_hu k2
    refine r_aload_0 rfl ?_
    refine r_getf rfl (by assumption) (by rfl) ?_
    refine r_getf rfl (by assumption) (by rfl) ?_
    refine r_iload_1 rfl ?_
    refine r_iald rfl (g1) (by rfl) (hi9) (by first | decide | omega) ?_
    rw [cl_in hi9]
    refine r_istore_2 rfl ?_
    refine r_aload_0 rfl ?_
    refine r_getf rfl (by assumption) (by rfl) ?_
    refine r_getf rfl (by assumption) (by rfl) ?_
    refine r_iload_1 rfl ?_
    refine r_push rfl ?_
    refine r_iast rfl (g1) (by rfl) (hi9) (by first | decide | omega) ?_
    refine r_aload_0 rfl ?_
    refine r_getf rfl (by assumption) (by rfl) ?_
    refine r_getf rfl (by assumption) (by rfl) ?_
    refine r_iload_1 rfl ?_
    refine r_push rfl ?_
    refine r_zast rfl (g3) (by rfl) (hi9) (by first | decide | omega) ?_
    refine r_iload_2 rfl ?_
    refine r_iret rfl ?_
    exact Or.inl ⟨_, _, rfl, rfl, rfl, xw_fin gx sg K W F1 (k2.hf2 f2 (i := 6) (by decide)) (k2.hu hi9) (VR.u (v.u (Or.inr (Or.inr (Or.inr (Or.inl ⟨by omega, by omega, fun z => by omega, fun z => by omega⟩))))) (Or.inr (Or.inr (Or.inr (Or.inl ⟨by omega, by omega, fun z => by omega, fun _ => ⟨0, by decide, rfl⟩⟩))))) (BY.u (yb.u v.ss.2 (by omega)) (by unfold nS; rw [upd_ne (by omega)]; exact v.ss.2) (by omega)) (by rw [upd_ne (by omega), upd_ne (by omega)]) (by rw [upd_ne (by omega), upd_ne (by omega)]) (fun k hk => by rw [upd_ne (by omega), upd_ne (by omega)]) (fun k hk => by rw [upd_ne (by omega), upd_ne (by omega)])⟩
end
