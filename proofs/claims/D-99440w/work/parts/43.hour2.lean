/-! AN HOUR of the system: all go, all tire, the hour ends -/
set_option maxRecDepth 100000
theorem step_b {a g : Nat} (ha : a < 12) (hg : g < 12) : (nI a < nI g → isB (nI a + 1) 12) ∧ (¬ nI a < nI g → nI a ≠ nI g → isB (nI a - 1) 12) := by
  refine ⟨fun z => ⟨a + 1, ?_, nI_1 a⟩, fun z y => ⟨a - 1, by omega, ?_⟩⟩
  · have := (nI_ltI (by omega) (by omega)).mp z
    omega
  · have h1 : ¬ a < g := fun q => z ((nI_ltI (by omega) (by omega)).mpr q)
    have h2 : a ≠ g := fun q => y (by rw [q])
    rw [show (1 : Int32) = nI 1 from rfl, nI_sub (by omega)]
/-- a row that is as before, but for what an hour may change -/
def KR (m m' : Nat → Int32) : Prop := (m' 1 = m 1 ∧ m' 2 = m 2 ∧ ∀ k, 369 ≤ k → m' k = m k) ∧ m' 3 = m 3 ∧ m' 4 = m 4
theorem KR.refl {m : Nat → Int32} : KR m m := ⟨⟨rfl, rfl, fun _ _ => rfl⟩, rfl, rfl⟩
theorem KR.trans {m m' m'' : Nat → Int32} (a : KR m m') (c : KR m' m'') : KR m m'' := ⟨⟨c.1.1.trans a.1.1, c.1.2.1.trans a.1.2.1, fun k hk => (c.1.2.2 k hk).trans (a.1.2.2 k hk)⟩, c.2.1.trans a.2.1, c.2.2.trans a.2.2⟩
theorem KR.u {m : Nat → Int32} {k : Nat} {x : Int32} (h : k ≠ 1 ∧ k ≠ 2 ∧ k ≠ 3 ∧ k ≠ 4 ∧ k < 369) : KR m (upd m k x) := ⟨⟨upd_ne (Ne.symm h.1), upd_ne (Ne.symm h.2.1), fun j hj => upd_ne (by omega)⟩, upd_ne (Ne.symm h.2.2.1), upd_ne (Ne.symm h.2.2.2.1)⟩
theorem KR.np {m m' : Nat → Int32} (a : KR m m') : nP m' = nP m := by unfold nP; rw [a.2.1]
theorem KR.ns {m m' : Nat → Int32} (a : KR m m') : nS m' = nS m := by unfold nS; rw [a.2.2]
section
variable {m b : Nat → Int32} {p : Nat}
theorem goF_ok (v : VR m) (y : BY b m) (hp : p < nP m) : VR (goF m p) ∧ BY b (goF m p) ∧ KR m (goF m p) := by
  have hp6 : p < 6 := by have := v.pp.2; omega
  have h10 := v.ss.2
  obtain ⟨⟨a, ha, ea⟩, ⟨g, hg, eg⟩, -⟩ := v.pe p hp
  have sb := step_b ha hg
  unfold goF
  split
  · exact ⟨v.u (Or.inr (Or.inr (Or.inr (Or.inl ⟨by omega, by omega, fun z => absurd z (by omega), fun z => absurd z (by omega)⟩)))), y.u h10 (by omega), KR.u (by omega)⟩
  · rename_i hne
    split
    · exact ⟨v, y, KR.refl⟩
    · unfold wkF
      split
      · exact ⟨v, y, KR.refl⟩
      · refine ⟨v.u (Or.inr (Or.inr (Or.inr (Or.inl ⟨by omega, by omega, fun _ => ?_, fun z => absurd z (by omega)⟩)))), y.u h10 (by omega), KR.u (by omega)⟩
        unfold nxF
        rw [ea, eg] at hne ⊢
        split
        · rename_i hz; exact sb.1 hz
        · rename_i hz; exact sb.2 hz hne
theorem goN_ok (v : VR m) (y : BY b m) : ∀ k, k ≤ nP m → VR (goN m k) ∧ BY b (goN m k) ∧ KR m (goN m k)
  | 0, _ => ⟨v, y, KR.refl⟩
  | k + 1, h => by
    obtain ⟨v1, y1, k1⟩ := goN_ok v y k (by omega)
    obtain ⟨v2, y2, k2⟩ := goF_ok v1 y1 (p := k) (by rw [k1.np]; omega)
    exact ⟨v2, y2, k1.trans k2⟩
theorem trF_ok (v : VR m) (y : BY b m) (hp : p < nP m) : VR (trF m p) ∧ BY b (trF m p) ∧ KR m (trF m p) := by
  have hp6 : p < 6 := by have := v.pp.2; omega
  exact ⟨v.u (Or.inr (Or.inr (Or.inr (Or.inl ⟨by omega, by omega, fun z => absurd z (by omega), fun z => absurd z (by omega)⟩)))), y.u v.ss.2 (by omega), KR.u (by omega)⟩
theorem seed_ok (v : VR m) (y : BY b m) (x : Int32) : VR (upd m 8 x) ∧ BY b (upd m 8 x) ∧ KR m (upd m 8 x) := ⟨v.u (Or.inl (by omega)), y.u v.ss.2 (by omega), KR.u (by omega)⟩
theorem hurt_ok (v : VR m) (y : BY b m) (hp : p < nP m) {x : Int32} (hx : isB x 2) : VR (upd m (38 + 6 * p) x) ∧ BY b (upd m (38 + 6 * p) x) ∧ KR m (upd m (38 + 6 * p) x) := by
  have hp6 : p < 6 := by have := v.pp.2; omega
  exact ⟨v.u (Or.inr (Or.inr (Or.inr (Or.inl ⟨by omega, by omega, fun z => absurd z (by omega), fun _ => hx⟩)))), y.u v.ss.2 (by omega), KR.u (by omega)⟩
theorem tirF_ok {dr : Bool} {c : Int32} (v : VR m) (y : BY b m) (hp : p < nP m) : VR (tirF dr c m p).2 ∧ BY b (tirF dr c m p).2 ∧ KR m (tirF dr c m p).2 := by
  obtain ⟨v1, y1, k1⟩ := trF_ok v y hp
  obtain ⟨v2, y2, k2⟩ := seed_ok v1 y1 (sdF (trF m p))
  unfold tirF
  split
  · exact ⟨v, y, KR.refl⟩
  · split
    · exact ⟨v1, y1, k1⟩
    · split
      · exact ⟨v2, y2, k1.trans k2⟩
      · obtain ⟨v3, y3, k3⟩ := hurt_ok v2 y2 (p := p) (x := 1) (by rw [k2.np, k1.np]; exact hp) ⟨1, by decide, rfl⟩
        exact ⟨v3, y3, (k1.trans k2).trans k3⟩
theorem tirN_ok {dr : Bool} (v : VR m) (y : BY b m) : ∀ k, k ≤ nP m → VR (tirN dr m k).2 ∧ BY b (tirN dr m k).2 ∧ KR m (tirN dr m k).2
  | 0, _ => ⟨v, y, KR.refl⟩
  | k + 1, h => by
    obtain ⟨v1, y1, k1⟩ := tirN_ok (dr := dr) v y k (by omega)
    obtain ⟨v2, y2, k2⟩ := tirF_ok (dr := dr) (c := (tirN dr m k).1) v1 y1 (p := k) (by rw [k1.np]; omega)
    exact ⟨v2, y2, k1.trans k2⟩
theorem half_b {k : Nat} (h : k < 2 ^ 31) : nI k / 2 = nI (k / 2) := by
  rw [show (2 : Int32) = nI 2 from rfl]
  apply Int32.toInt_inj.mp
  rw [Int32.toInt_div_of_ne_left _ _ (fun z => by
    have := congrArg Int32.toInt z
    rw [nI_toInt h] at this
    exact absurd this (by rw [show (Int32.minValue).toInt = -2147483648 from rfl]; omega)), nI_toInt h, nI_toInt (by decide), nI_toInt (by omega)]
  rfl
theorem age_b : ∀ q, q < 41 → minF 40 (nI q + 1) = nI (min 40 (q + 1)) := by decide +kernel
theorem ageN_ok (v : VR m) (y : BY b m) : ∀ k, k ≤ nS m → VR (ageN m k) ∧ BY b (ageN m k) ∧ KR m (ageN m k)
  | 0, _ => ⟨v, y, KR.refl⟩
  | k + 1, h => by
    obtain ⟨v1, y1, k1⟩ := ageN_ok v y k (by omega)
    have h10 := v.ss.2
    obtain ⟨-, -, ⟨⟨q, hq, eq⟩, h0⟩, -⟩ := v1.st k (by rw [k1.ns]; omega)
    rw [ageN]
    split
    · exact ⟨v1, y1, k1⟩
    · refine ⟨v1.u (Or.inr (Or.inr (Or.inr (Or.inr ⟨by omega, by omega, by omega, ?_, ?_⟩)))), y1.u v1.ss.2 (by omega), k1.trans (KR.u (by omega))⟩
      · rw [eq, age_b q hq]; exact ⟨_, by omega, rfl⟩
      · rw [eq, age_b q hq]; exact nI_ne0 (by omega) (by omega)
theorem slpN_ok (v : VR m) (y : BY b m) : ∀ k, k ≤ 6 → VR (slpN m k) ∧ BY b (slpN m k) ∧ KR m (slpN m k)
  | 0, _ => ⟨v, y, KR.refl⟩
  | k + 1, h => by
    obtain ⟨v1, y1, k1⟩ := slpN_ok v y k (by omega)
    rw [slpN]
    exact ⟨v1.u (Or.inr (Or.inr (Or.inr (Or.inl ⟨by omega, by omega, fun z => absurd z (by omega), fun z => absurd z (by omega)⟩)))), y1.u v1.ss.2 (by omega), k1.trans (KR.u (by omega))⟩
theorem endF_ok (v : VR m) (y : BY b m) : VR (endF m) ∧ BY b (endF m) ∧ KR m (endF m) := by
  unfold endF
  have v1 : VR (upd m 5 (m 5 + 1)) := v.u (Or.inl (by omega))
  have y1 : BY b (upd m 5 (m 5 + 1)) := y.u v.ss.2 (by omega)
  have k1 : KR m (upd m 5 (m 5 + 1)) := KR.u (by omega)
  split
  · exact ⟨v, y, KR.refl⟩
  · split
    · exact ⟨v1, y1, k1⟩
    · unfold dawnF
      obtain ⟨v2, y2, k2⟩ := ageN_ok v1 y1 _ (Nat.le_refl _)
      obtain ⟨v3, y3, k3⟩ := slpN_ok v2 y2 (nP (upd m 5 (m 5 + 1))) v1.pp.2
      exact ⟨v3, y3, (k1.trans k2).trans k3⟩
theorem hourF_ok {dr : Bool} (v : VR m) (y : BY b m) : VR (hourF dr m).2 ∧ BY b (hourF dr m).2 ∧ KR m (hourF dr m).2 := by
  obtain ⟨v1, y1, k1⟩ := goN_ok v y _ (Nat.le_refl _)
  obtain ⟨v2, y2, k2⟩ := tirN_ok (dr := dr) v1 y1 (nP m) (by rw [k1.np]; exact Nat.le_refl _)
  obtain ⟨v3, y3, k3⟩ := endF_ok v2 y2
  exact ⟨v3, y3, (k1.trans k2).trans k3⟩
end
section
variable {G : am_G} {bs x w : Nat} {S : Nat → Prop} {hi : Bool} {h h0 : am_H} {m b : Nat → Int32} {l : Value} {p : Nat}
theorem c_tiresBy (q : HS G bs x w S hi h m b l) (g : GEO bs x w S) (hp : p < nP m) : Ev G 42 m_X1_tiresBy [.ref x, .ref w, .int (nI p)] h (fun v h' => v = .int (tiF m p) ∧ HF (isR (x + 48)) 0 0 h h' ∧ ∃ s, h'.1 (x + 48) = some (.inr (3, sobj s))) := by
  have q0 := q
  obtain ⟨q1, q2, q3, q4, q5, q6, q7, q8⟩ := q
  have o := wa_o q1; have a1 := wa_ba q1
  have hp6 : p < 6 := by have := q2.pp.2; omega
  obtain ⟨_, _, kd9, -, -, -, -, kk⟩ := id q6.2.2.2.2.1
  have hkd := (kk 0 (by decide)).2.1
  rcases q4 with ⟨z1, rfl⟩ | ⟨z1, a, rfl, z3⟩
  · refine wc_in mt_X1_tiresBy rfl (L := [.ref x, .ref w, .int (nI p)]) rfl ?_
    refine r_aload_1 rfl ?_
    refine r_getf rfl (by assumption) (by rfl) ?_
    refine r_ifnonnullF rfl ?_
    refine r_aload_1 rfl ?_
    refine r_iload_2 rfl ?_
    refine r_invvP_1 rfl (by assumption) rfl rfl (by decide) (c_load q1 q2 q3 _) ?_
    refine r_push rfl ?_
    refine r_idiv rfl (by decide) ?_
    refine r_goto rfl ?_
    refine r_iret rfl ?_
    refine ⟨_, _, rfl, ?_, HF.mono (HF.refl q5) (fun _ z => z) (Nat.le_refl _) (Nat.le_refl _), q8⟩
    unfold tiF
    rw [if_pos z1]
  · refine wc_in mt_X1_tiresBy rfl (L := [.ref x, .ref w, .int (nI p)]) rfl ?_
    refine r_aload_1 rfl ?_
    refine r_getf rfl o rfl ?_
    refine r_ifnonnullT rfl ?_
    refine r_aload_0 rfl ?_
    refine r_aload_1 rfl ?_
    refine r_globR rfl hkd ?_
    refine r_iload_2 rfl ?_
    refine r_invvE rfl rfl q7 rfl rfl (by decide) (c_by q0 g hp (k := 0) (by decide) hkd rfl z3) ?_
    rintro v h' ⟨rfl, f1, f2⟩
    refine r_iret rfl ?_
    exact ⟨_, _, rfl, by unfold tiF; rw [if_neg z1], f1, f2⟩
theorem c_earnsBy (q : HS G bs x w S hi h m b l) (g : GEO bs x w S) (hp : p < nP m) : Ev G 42 m_X1_earnsBy [.ref x, .ref w, .int (nI p)] h (fun v h' => v = .int (eaF m p) ∧ HF (isR (x + 48)) 0 0 h h' ∧ ∃ s, h'.1 (x + 48) = some (.inr (3, sobj s))) := by
  have q0 := q
  obtain ⟨q1, q2, q3, q4, q5, q6, q7, q8⟩ := q
  have o := wa_o q1; have a1 := wa_ba q1
  have hp6 : p < 6 := by have := q2.pp.2; omega
  obtain ⟨_, _, kd9, -, -, -, -, kk⟩ := id q6.2.2.2.2.1
  have hkd := (kk 1 (by decide)).2.1
  rcases q4 with ⟨z1, rfl⟩ | ⟨z1, a, rfl, z3⟩
  · refine wc_in mt_X1_earnsBy rfl (L := [.ref x, .ref w, .int (nI p)]) rfl ?_
    refine r_aload_1 rfl ?_
    refine r_getf rfl (by assumption) (by rfl) ?_
    refine r_ifnonnullF rfl ?_
    refine r_push rfl ?_
    refine r_push rfl ?_
    refine r_aload_1 rfl ?_
    refine r_iload_2 rfl ?_
    refine r_invvP_1 rfl (by assumption) rfl rfl (by decide) (c_load q1 q2 q3 _) ?_
    refine r_push rfl ?_
    refine r_idiv rfl (by decide) ?_
    refine r_isub rfl ?_
    refine r_invP_2 rfl rfl (by decide) (c_max _ _) ?_
    refine r_goto rfl ?_
    refine r_iret rfl ?_
    refine ⟨_, _, rfl, ?_, HF.mono (HF.refl q5) (fun _ z => z) (Nat.le_refl _) (Nat.le_refl _), q8⟩
    unfold eaF
    rw [if_pos z1]
  · refine wc_in mt_X1_earnsBy rfl (L := [.ref x, .ref w, .int (nI p)]) rfl ?_
    refine r_aload_1 rfl ?_
    refine r_getf rfl o rfl ?_
    refine r_ifnonnullT rfl ?_
    refine r_aload_0 rfl ?_
    refine r_aload_1 rfl ?_
    refine r_globR rfl hkd ?_
    refine r_iload_2 rfl ?_
    refine r_invvE rfl rfl q7 rfl rfl (by decide) (c_by q0 g hp (k := 1) (by decide) hkd rfl z3) ?_
    rintro v h' ⟨rfl, f1, f2⟩
    refine r_iret rfl ?_
    exact ⟨_, _, rfl, by unfold eaF; rw [if_neg z1], f1, f2⟩
theorem c_hurtsBy (q : HS G bs x w S hi h m b l) (g : GEO bs x w S) (hp : p < nP m) : Ev G 42 m_X1_hurtsBy [.ref x, .ref w, .int (nI p)] h (fun v h' => v = .int (huF m p) ∧ HF (isR (x + 48)) 0 0 h h' ∧ ∃ s, h'.1 (x + 48) = some (.inr (3, sobj s))) := by
  have q0 := q
  obtain ⟨q1, q2, q3, q4, q5, q6, q7, q8⟩ := q
  have o := wa_o q1; have a1 := wa_ba q1
  have hp6 : p < 6 := by have := q2.pp.2; omega
  obtain ⟨_, _, kd9, -, -, -, -, kk⟩ := id q6.2.2.2.2.1
  have hkd := (kk 2 (by decide)).2.1
  rcases q4 with ⟨z1, rfl⟩ | ⟨z1, a, rfl, z3⟩
  · refine wc_in mt_X1_hurtsBy rfl (L := [.ref x, .ref w, .int (nI p)]) rfl ?_
    refine r_aload_1 rfl ?_
    refine r_getf rfl (by assumption) (by rfl) ?_
    refine r_ifnonnullF rfl ?_
    refine r_push rfl ?_
    refine r_aload_1 rfl ?_
    refine r_iload_2 rfl ?_
    refine r_invvP_1 rfl (by assumption) rfl rfl (by decide) (c_load q1 q2 q3 _) ?_
    refine r_aload_1 rfl ?_
    refine r_getf rfl (by assumption) (by rfl) ?_
    refine r_iload_2 rfl ?_
    refine r_iald rfl (by assumption) (by rfl) (hp6) (by first | decide | omega) ?_
    refine r_isub rfl ?_
    refine r_invP_2 rfl rfl (by decide) (c_max _ _) ?_
    refine r_goto rfl ?_
    refine r_iret rfl ?_
    refine ⟨_, _, rfl, ?_, HF.mono (HF.refl q5) (fun _ z => z) (Nat.le_refl _) (Nat.le_refl _), q8⟩
    unfold huF
    rw [if_pos z1]
    rw [cl_in hp6]
  · refine wc_in mt_X1_hurtsBy rfl (L := [.ref x, .ref w, .int (nI p)]) rfl ?_
    refine r_aload_1 rfl ?_
    refine r_getf rfl o rfl ?_
    refine r_ifnonnullT rfl ?_
    refine r_push rfl ?_
    refine r_aload_0 rfl ?_
    refine r_aload_1 rfl ?_
    refine r_globR rfl hkd ?_
    refine r_iload_2 rfl ?_
    refine r_invvE rfl rfl q7 rfl rfl (by decide) (c_by q0 g hp (k := 2) (by decide) hkd rfl z3) ?_
    rintro v h' ⟨rfl, f1, f2⟩
    refine r_invP_2 rfl rfl (by decide) (c_min _ _) ?_
    refine r_iret rfl ?_
    exact ⟨_, _, rfl, by unfold huF; rw [if_neg z1], f1, f2⟩
theorem isR_HP {a : Nat} (z : isR (x + 48) a) : HP w x a := Or.inr z
theorem WA_sc (q : WA h w m b l) (g : GEO bs x w S) {h' : am_H} {c s : Nat} (f : HF (isR (x + 48)) c s h h') : WA h' w m b l := q.keep f (fun a z => by obtain ⟨g1, g2, g3, -⟩ := g; simp only [isR] at z; omega)
/-- .. the scene alone was written -/
theorem HS.sc (q : HS G bs x w S hi h m b l) (g : GEO bs x w S) {h' : am_H} (f : HF (isR (x + 48)) 0 0 h h') (hs : ∃ s, h'.1 (x + 48) = some (.inr (3, sobj s))) : HS G bs x w S hi h' m b l := q.step g (f.mono (fun a z => isR_HP z) (Nat.le_refl _) (Nat.le_refl _)) (WA_sc q.1 g f) q.2.1 q.2.2.1 rfl rfl (fun _ _ => rfl) hs
/-- .. the World alone -/
theorem HS.wo (q : HS G bs x w S hi h m b l) (g : GEO bs x w S) {h' : am_H} {m' : Nat → Int32} (f : HF (InW w) 0 0 h h') (wa : WA h' w m' b l) (ok : VR m' ∧ BY b m' ∧ KR m m') : HS G bs x w S hi h' m' b l := q.step g (f.mono (fun a z => Or.inl z) (Nat.le_refl _) (Nat.le_refl _)) wa ok.1 ok.2.1 ok.2.2.1.1 ok.2.2.1.2.1 ok.2.2.1.2.2 (by
  obtain ⟨s, hs⟩ := q.2.2.2.2.2.2.2
  obtain ⟨g1, g2, g3, -⟩ := g
  exact ⟨s, f.k hs (fun z => by have := z.1; have := z.2; omega)⟩)
/-- the state of a loop over people -/
def HL (G : am_G) (bs x w : Nat) (S : Nat → Prop) (hi : Bool) (h0 : am_H) (b : Nat → Int32) (l : Value) (m : Nat → Int32) (h : am_H) : Prop := HS G bs x w S hi h m b l ∧ HF (HP w x) 0 0 h0 h
theorem HL.sc (q : HL G bs x w S hi h0 b l m h) (g : GEO bs x w S) {h' : am_H} (f : HF (isR (x + 48)) 0 0 h h') (hs : ∃ s, h'.1 (x + 48) = some (.inr (3, sobj s))) : HL G bs x w S hi h0 b l m h' := ⟨q.1.sc g f hs, (HF.trans q.2 (f.mono (fun a z => isR_HP z) (Nat.le_refl _) (Nat.le_refl _))).mono (fun _ z => z) (Nat.le_refl _) (Nat.le_refl _)⟩
theorem HL.wo (q : HL G bs x w S hi h0 b l m h) (g : GEO bs x w S) {h' : am_H} {m' : Nat → Int32} (f : HF (InW w) 0 0 h h') (wa : WA h' w m' b l) (ok : VR m' ∧ BY b m' ∧ KR m m') : HL G bs x w S hi h0 b l m' h' := ⟨q.1.wo g f wa ok, (HF.trans q.2 (f.mono (fun a z => Or.inl z) (Nat.le_refl _) (Nat.le_refl _))).mono (fun _ z => z) (Nat.le_refl _) (Nat.le_refl _)⟩
theorem c_allGo (q : HL G bs x w S hi h0 b l m h) (g : GEO bs x w S) : En G 43 m_X1_allGo [.ref x, .ref w] h (fun h' => HL G bs x w S hi h0 b l (goN m (nP m)) h') := by
  have v0 := q.1.2.1
  have y0 := q.1.2.2.1
  refine wc_in mt_X1_allGo rfl (L := [.ref x, .ref w, am_un]) rfl ?_
  refine r_push rfl ?_
  refine r_istore_2 rfl ?_
  refine wp_forHK (nP m) (fun j => [.ref x, .ref w, .int (nI j)]) (fun j h' => HL G bs x w S hi h0 b l (goN m j) h') (fun j h' hj hK kont => ?_) (fun h' hK => ?_) q
  · obtain ⟨v1, y1, k1⟩ := goN_ok v0 y0 j (by omega)
    have ok := goF_ok v1 y1 (p := j) (by rw [k1.np]; exact hj)
    have hP6 := v0.pp.2
    have hj6 : j < 6 := by omega
    have e3 : goN m j 3 = nI (nP m) := by rw [k1.2.1]; exact v0.pp.1
    have hjp : j < nP (goN m j) := by rw [k1.np]; exact hj
    have K := hK
    obtain ⟨⟨q1, -, -, -, q5, q6, q7, q8⟩, -⟩ := hK
    have o := wa_o q1; have a1 := wa_at q1; have a2 := wa_go q1
    have fin : ∀ h2, HL G bs x w S hi h0 b l (goF (goN m j) j) h2 → Wp G 43 mt_X1_allGo 52 [.ref x, .ref w, .int (nI j)] [] h2 (fun R => ∃ h', R = .inl (none, h') ∧ HL G bs x w S hi h0 b l (goN m (nP m)) h') := by
      intro h2 hk2
      refine r_iinc_2 rfl ?_
      refine r_goto rfl ?_
      rw [nI_1]
      exact kont h2 hk2
    refine r_iload_2 rfl ?_
    refine r_aload_1 rfl ?_
    refine r_getf rfl o rfl ?_
    rw [e3]
    refine r_icgeF rfl (nI_lt hj (by omega)) ?_
    refine r_aload_1 rfl ?_
    refine r_getf rfl o rfl ?_
    refine r_iload_2 rfl ?_
    refine r_iald rfl a1 rfl hj6 (by decide) ?_
    refine r_aload_1 rfl ?_
    refine r_getf rfl o rfl ?_
    refine r_iload_2 rfl ?_
    refine r_iald rfl a2 rfl hj6 (by decide) ?_
    rw [cl_in hj6, cl_in hj6]
    refine r_icne rfl (fun c => ?_) (fun c => ?_)
    · have eg : goF (goN m j) j = if bowF (goN m j) j = true then goN m j else wkF (goN m j) j := by unfold goF; rw [if_neg c]
      rw [eg] at fin ok
      refine r_aload_1 rfl ?_
      refine r_iload_2 rfl ?_
      refine r_invvP_1 rfl o rfl rfl (by decide) (c_isBowed q1 v1 y1 hjp) ?_
      cases eb : bowF (goN m j) j with
      | true =>
        rw [eb, if_pos rfl] at fin ok
        refine r_ifneT rfl (by decide) ?_
        exact fin _ K
      | false =>
        rw [eb, if_neg (by decide)] at fin ok
        refine r_ifneF rfl rfl ?_
        refine r_aload_1 rfl ?_
        refine r_iload_2 rfl ?_
        refine r_invvF rfl rfl o rfl rfl (by decide) (c_walks q1 q5 v1 y1 hj6) ?_
        rintro h2 ⟨q2, f2⟩
        exact fin _ (K.wo g f2 q2 ok)
    · have eg : goF (goN m j) j = upd (goN m j) (33 + 6 * j) (minF 9999 (goN m j (33 + 6 * j) + eaF (goN m j) j)) := by unfold goF; rw [if_pos c]
      rw [eg] at fin ok
      refine r_aload_1 rfl ?_
      refine r_iload_2 rfl ?_
      refine r_aload_0 rfl ?_
      refine r_aload_1 rfl ?_
      refine r_iload_2 rfl ?_
      refine r_invvE rfl rfl q7 rfl rfl (by decide) (c_earnsBy K.1 g hjp) ?_
      rintro v h2 ⟨rfl, f2, s2⟩
      have K2 := K.sc g f2 s2
      refine r_invvF rfl rfl (wa_o K2.1.1) rfl rfl (by decide) (c_gets K2.1.1 f2.w hj6 _) ?_
      rintro h3 ⟨q3, f3⟩
      refine r_goto rfl ?_
      exact fin _ (K2.wo g f3 q3 ok)
  · obtain ⟨v1, y1, k1⟩ := goN_ok v0 y0 (nP m) (Nat.le_refl _)
    have e3 : goN m (nP m) 3 = nI (nP m) := by rw [k1.2.1]; exact v0.pp.1
    refine r_iload_2 rfl ?_
    refine r_aload_1 rfl ?_
    refine r_getf rfl (wa_o hK.1.1) rfl ?_
    rw [e3]
    refine r_icgeT rfl (Int32.le_refl _) ?_
    refine r_vret rfl ?_
    exact ⟨_, rfl, hK⟩
theorem c_allTire (q : HL G bs x w S hi h0 b l m h) (g : GEO bs x w S) (dr : Bool) : Ev G 43 m_X1_allTire [.ref x, .ref w, .int (bI dr)] h (fun v h' => v = .int (tirN dr m (nP m)).1 ∧ HL G bs x w S hi h0 b l (tirN dr m (nP m)).2 h') := by
  have v0 := q.1.2.1
  have y0 := q.1.2.2.1
  refine wc_in mt_X1_allTire rfl (L := [.ref x, .ref w, .int (bI dr), am_un, am_un]) rfl ?_
  refine r_push rfl ?_
  refine r_istore_3 rfl ?_
  refine r_push rfl ?_
  refine r_istore_4 rfl ?_
  refine wp_forHK (nP m) (fun j => [.ref x, .ref w, .int (bI dr), .int (tirN dr m j).1, .int (nI j)]) (fun j h' => HL G bs x w S hi h0 b l (tirN dr m j).2 h') (fun j h' hj hK kont => ?_) (fun h' hK => ?_) q
  · obtain ⟨v1, y1, k1⟩ := tirN_ok (dr := dr) v0 y0 j (by omega)
    have hP6 := v0.pp.2
    have hj6 : j < 6 := by omega
    have hjp : j < nP (tirN dr m j).2 := by rw [k1.np]; exact hj
    have e3 : (tirN dr m j).2 3 = nI (nP m) := by rw [k1.2.1]; exact v0.pp.1
    have en : tirN dr m (j + 1) = tirF dr (tirN dr m j).1 (tirN dr m j).2 j := rfl
    rw [en] at kont
    generalize (tirN dr m j).1 = c0 at *
    generalize (tirN dr m j).2 = m0 at *
    have K := hK
    obtain ⟨⟨q1, -, -, -, q5, q6, q7, q8⟩, -⟩ := hK
    have o := wa_o q1; have a1 := wa_hu q1; have a2 := wa_ti q1
    have fin : ∀ h2 (c2 : Int32), c2 = (tirF dr c0 m0 j).1 → HL G bs x w S hi h0 b l (tirF dr c0 m0 j).2 h2 → Wp G 43 mt_X1_allTire 88 [.ref x, .ref w, .int (bI dr), .int c2, .int (nI j)] [] h2 (fun R => ∃ v h', R = .inl (some v, h') ∧ v = .int (tirN dr m (nP m)).1 ∧ HL G bs x w S hi h0 b l (tirN dr m (nP m)).2 h') := by
      rintro h2 c2 rfl hk2
      refine r_iinc_4 rfl ?_
      refine r_goto rfl ?_
      rw [nI_1]
      exact kont h2 hk2
    refine r_iload_4 rfl ?_
    refine r_aload_1 rfl ?_
    refine r_getf rfl o rfl ?_
    rw [e3]
    refine r_icgeF rfl (nI_lt hj (by omega)) ?_
    refine r_aload_1 rfl ?_
    refine r_getf rfl o rfl ?_
    refine r_iload_4 rfl ?_
    refine r_zald rfl a1 rfl hj6 (by decide) ?_
    rw [cl_in hj6]
    refine r_ifeq rfl (fun c => ?_) (fun c => ?_)
    · obtain ⟨t1, t2, t3⟩ := trF_ok v1 y1 hjp
      have ok1 : VR (trF m0 j) ∧ BY b (trF m0 j) ∧ KR m0 (trF m0 j) := ⟨t1, t2, t3⟩
      refine r_aload_1 rfl ?_
      refine r_getf rfl o rfl ?_
      refine r_iload_4 rfl ?_
      refine r_push rfl ?_
      refine r_aload_1 rfl ?_
      refine r_getf rfl o rfl ?_
      refine r_iload_4 rfl ?_
      refine r_iald rfl a2 rfl hj6 (by decide) ?_
      rw [cl_in hj6]
      refine r_aload_0 rfl ?_
      refine r_aload_1 rfl ?_
      refine r_iload_4 rfl ?_
      refine r_invvE rfl rfl q7 rfl rfl (by decide) (c_tiresBy K.1 g hjp) ?_
      rintro v h2 ⟨rfl, f2, s2⟩
      have K2 := K.sc g f2 s2
      have a3 := wa_ti K2.1.1
      refine r_iadd rfl ?_
      refine r_invP_2 rfl rfl (by decide) (c_min _ _) ?_
      refine r_iast rfl a3 rfl hj6 (by decide) ?_
      have K3 : HL G bs x w S hi h0 b l (trF m0 j) _ := K2.wo g (K2.1.1.hf f2.w (i := 5) (by decide)) (K2.1.1.ti hj6) ok1
      generalize am_set h2 (w + 5) _ = h3 at K3 ⊢
      refine r_iload_2 rfl ?_
      cases hdr : dr with
      | false =>
        subst hdr
        have et : tirF false c0 m0 j = (c0, trF m0 j) := by unfold tirF; rw [if_neg (fun z => z c), if_pos rfl]
        rw [et] at fin
        refine r_ifeqT rfl rfl ?_
        exact fin h3 c0 rfl K3
      | true =>
        subst hdr
        refine r_ifeqF rfl (by decide) ?_
        refine r_aload_1 rfl ?_
        refine r_push rfl ?_
        refine r_invvE rfl rfl (wa_o K3.1.1) rfl rfl (by decide) (c_draw K3.1.1 K3.1.2.2.2.2.1) ?_
        rintro v h4 ⟨rfl, q4, f4⟩
        have ok4 := seed_ok t1 t2 (sdF (trF m0 j))
        have K4 := K3.wo g f4 q4 ok4
        have hjp4 : j < nP (upd (trF m0 j) 8 (sdF (trF m0 j))) := by rw [ok4.2.2.np, t3.np]; exact hjp
        refine r_aload_0 rfl ?_
        refine r_aload_1 rfl ?_
        refine r_iload_4 rfl ?_
        refine r_invvE rfl rfl K4.1.2.2.2.2.2.2.1 rfl rfl (by decide) (c_hurtsBy K4.1 g hjp4) ?_
        rintro v h5 ⟨rfl, f5, s5⟩
        have K5 := K4.sc g f5 s5
        refine r_iclt rfl (fun c5 => ?_) (fun c5 => ?_)
        · have et : tirF true c0 m0 j = (c0 + 1, upd (upd (trF m0 j) 8 (sdF (trF m0 j))) (38 + 6 * j) 1) := by unfold tirF; rw [if_neg (fun z => z c), if_neg (by decide), if_neg (Int32.not_le.mpr c5)]
          rw [et] at fin
          have ok5 := hurt_ok (x := 1) K5.1.2.1 K5.1.2.2.1 hjp4 ⟨1, by decide, rfl⟩
          refine r_aload_1 rfl ?_
          refine r_getf rfl (wa_o K5.1.1) rfl ?_
          refine r_iload_4 rfl ?_
          refine r_push rfl ?_
          refine r_zast rfl (wa_hu K5.1.1) rfl hj6 (by decide) ?_
          refine r_iinc_3 rfl ?_
          exact fin _ _ rfl (K5.wo g (K5.1.1.hf f5.w (i := 6) (by decide)) (K5.1.1.hu hj6) ok5)
        · have et : tirF true c0 m0 j = (c0, upd (trF m0 j) 8 (sdF (trF m0 j))) := by unfold tirF; rw [if_neg (fun z => z c), if_neg (by decide), if_pos c5]
          rw [et] at fin
          refine r_goto rfl ?_
          exact fin _ _ rfl K5
    · have et : tirF dr c0 m0 j = (c0, m0) := by unfold tirF; rw [if_pos c]
      rw [et] at fin
      refine r_goto rfl ?_
      exact fin _ _ rfl K
  · obtain ⟨v1, y1, k1⟩ := tirN_ok (dr := dr) v0 y0 (nP m) (Nat.le_refl _)
    have e3 : (tirN dr m (nP m)).2 3 = nI (nP m) := by rw [k1.2.1]; exact v0.pp.1
    refine r_iload_4 rfl ?_
    refine r_aload_1 rfl ?_
    refine r_getf rfl (wa_o hK.1.1) rfl ?_
    rw [e3]
    refine r_icgeT rfl (Int32.le_refl _) ?_
    refine r_iload_3 rfl ?_
    refine r_iret rfl ?_
    exact ⟨_, _, rfl, rfl, hK⟩
theorem c_anHour (q : HL G bs x w S hi h0 b l m h) (g : GEO bs x w S) (dr : Bool) : Ev G 44 m_X1_anHour [.ref x, .ref w, .int (bI dr)] h (fun v h' => v = .int (hourF dr m).1 ∧ HL G bs x w S hi h0 b l (hourF dr m).2 h') := by
  have v0 := q.1.2.1
  have y0 := q.1.2.2.1
  obtain ⟨v1, y1, k1⟩ := goN_ok v0 y0 _ (Nat.le_refl _)
  have eP : nP (goN m (nP m)) = nP m := k1.np
  refine wc_in mt_X1_anHour rfl (L := [.ref x, .ref w, .int (bI dr), am_un]) rfl ?_
  refine r_aload_0 rfl ?_
  refine r_aload_1 rfl ?_
  refine r_invvF rfl rfl q.1.2.2.2.2.2.2.1 rfl rfl (by decide) (c_allGo q g) ?_
  intro h1 q1
  refine r_aload_0 rfl ?_
  refine r_aload_1 rfl ?_
  refine r_iload_2 rfl ?_
  refine r_invvE rfl rfl q1.1.2.2.2.2.2.2.1 rfl rfl (by decide) (c_allTire q1 g dr) ?_
  rintro v h2 ⟨rfl, q2⟩
  rw [eP] at q2 ⊢
  refine r_istore_3 rfl ?_
  refine r_aload_1 rfl ?_
  refine r_invvF rfl rfl (wa_o q2.1.1) rfl rfl (by decide) (c_ends q2.1.1 q2.1.2.2.2.2.1 q2.1.2.1) ?_
  rintro h3 ⟨q3, f3⟩
  refine r_iload_3 rfl ?_
  refine r_iret rfl ?_
  exact ⟨_, _, rfl, rfl, q2.wo g f3 q3 (endF_ok q2.1.2.1 q2.1.2.2.1)⟩
end
