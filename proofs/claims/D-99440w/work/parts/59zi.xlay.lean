/-! ACTS of the system: lay, lift, hours -/
set_option maxRecDepth 100000
theorem tl_upd {m : Nat → Int32} {s w n v : Int32} {k : Nat} (h : k < 129) (h5 : k ≠ 5) (h7 : k ≠ 7) : tlF (upd m k v) s w n = upd (tlF m s w n) k v := by
  funext j
  by_cases c : j = k
  · subst c
    rw [upd_eq, tl_lo h h7, upd_eq]
  · rw [upd_ne c]
    unfold tlF
    rw [upd_ne (Ne.symm h7), upd_ne (Ne.symm h5)]
    by_cases d : 133 ≤ j ∧ j < 369
    · rw [upd_ne (show j - 4 ≠ k by omega), upd_ne c]
    · rw [if_neg d, if_neg d, upd_ne c]
/-- hours leave limits and backs -/
def KB (m m' : Nat → Int32) : Prop := ∀ k, (k = 3 ∨ k = 6 ∨ (33 ≤ k ∧ k < 69 ∧ (k - 33) % 6 = 1)) → m' k = m k
theorem KB.trans {m m' m'' : Nat → Int32} (a : KB m m') (c : KB m' m'') : KB m m'' := fun k hk => (c k hk).trans (a k hk)
theorem KB.u {m : Nat → Int32} {k : Nat} {x : Int32} (h : ¬ (k = 3 ∨ k = 6 ∨ (33 ≤ k ∧ k < 69 ∧ (k - 33) % 6 = 1))) : KB m (upd m k x) := fun j hj => upd_ne (fun z => h (by rw [← z]; exact hj))
theorem goF_b {m : Nat → Int32} {p : Nat} (hp : p < 6) : KB m (goF m p) := by
  unfold goF
  split
  · exact KB.u (by omega)
  · split
    · exact fun _ _ => rfl
    · unfold wkF
      split
      · exact fun _ _ => rfl
      · exact KB.u (by omega)
theorem goN_b {m : Nat → Int32} : ∀ p, p ≤ 6 → KB m (goN m p)
  | 0, _ => fun _ _ => rfl
  | p + 1, h => (goN_b p (by omega)).trans (goF_b (by omega))
theorem tirF_b {dr : Bool} {c : Int32} {m : Nat → Int32} {p : Nat} (hp : p < 6) : KB m (tirF dr c m p).2 := by
  have e : KB m (trF m p) := by unfold trF; exact KB.u (by omega)
  unfold tirF
  split
  · exact fun _ _ => rfl
  · split
    · exact e
    · split
      · exact e.trans (KB.u (by omega))
      · exact (e.trans (KB.u (by omega))).trans (KB.u (by omega))
theorem tirN_b {dr : Bool} {m : Nat → Int32} : ∀ p, p ≤ 6 → KB m (tirN dr m p).2
  | 0, _ => fun _ _ => rfl
  | p + 1, h => (tirN_b p (by omega)).trans (tirF_b (by omega))
theorem endF_b {m : Nat → Int32} (h1 : nS m ≤ 10) (h2 : nP m ≤ 6) : KB m (endF m) := by
  unfold endF
  split
  · exact fun _ _ => rfl
  · split
    · exact KB.u (by omega)
    · have eS : nS (upd m 5 (m 5 + 1)) = nS m := by unfold nS; rw [upd_ne (by omega)]
      have eP : nP (upd m 5 (m 5 + 1)) = nP m := by unfold nP; rw [upd_ne (by omega)]
      intro k hk
      unfold dawnF
      rw [eS, eP, slpN_lo _ (by omega) _ h2, ageN_lo _ (by omega) _ h1, upd_ne (by omega)]
theorem hourF_b {dr : Bool} {m b : Nat → Int32} (v : VR m) (yb : BY b m) : KB m (hourF dr m).2 := by
  have hP := v.pp.2
  have a1 := goN_b (m := m) (nP m) hP
  have a2 := a1.trans (tirN_b (dr := dr) (m := goN m (nP m)) (nP m) hP)
  obtain ⟨v1, y1, k1⟩ := goN_ok v yb (nP m) (Nat.le_refl _)
  obtain ⟨v2, -, -⟩ := tirN_ok (dr := dr) v1 y1 (nP m) (by rw [k1.np]; exact Nat.le_refl _)
  exact a2.trans (endF_b v2.ss.2 v2.pp.2)
theorem hourN_b {dr : Bool} {m b : Nat → Int32} (v : VR m) (yb : BY b m) : ∀ n, KB m (hourN dr m n).2
  | 0 => fun _ _ => rfl
  | n + 1 => by
    obtain ⟨v1, y1, -⟩ := hourN_ok (dr := dr) v yb n
    exact (hourN_b v yb n).trans (hourF_b v1 y1)
section
variable {G : am_G} {bs x : Nat} {S : Nat → Prop} {hi : Bool} {h h1 h2 : am_H} {m m' b b' : Nat → Int32} {l : Value} {ws ws' : List (Nat × (Nat → Int32))} {a : Nat}
theorem c_xLay (q : HS G bs x (x + 1) S hi h m b l) (gx : bs ≤ x) (sg : SG bs x S h) (hn : x + 98 ≤ h.2.1) (wb : WB G bs x S h l m ws) (lb : LB m) (z : Int32) : Xa G 12 m_X1_lay [.ref x, .int z] bs x S hi h l ws m (layR m z.toNatClampNeg (bpF m z.toNatClampNeg)) (qLay m z) (k2 20 22) := by
  have Q := q
  obtain ⟨q1, v, yb, q4, q5, q6, o, s0, q8⟩ := q
  have o0 := wa_o q1; have oS := wa_st q1; have oT := wa_at q1; have oP := wa_po q1; have oL := wa_le q1
  refine wc_in mt_X1_lay rfl (L := [.ref x, .int z, am_un, am_un]) rfl ?_
  refine r_aload_0 rfl ?_
  refine r_iload_1 rfl ?_
  unfold qLay
  cases e1 : inF z 0 (m 4 - 1) with
  | false =>
    rw [if_pos rfl]
    refine r_invvX rfl rfl o rfl rfl rfl (by decide) (c_stoneAtF o q1 e1) ?_
    exact Or.inr ⟨_, _, rfl, by decide, rfl, rfl⟩
  | true =>
    rw [if_neg (by decide)]
    refine r_invvO rfl rfl o rfl rfl (by decide) (c_stoneAtT o q1 e1) ?_
    have e4 := v.ss.1
    rw [e4] at e1
    have hS := v.ss.2
    have hP := v.pp.2
    obtain ⟨i, hi6, rfl⟩ := inF_nI (by omega) e1
    have hi9 : i < 10 := by omega
    rw [nI_clamp (show i < 2 ^ 31 by omega)]
    have po := c_placeOf (G := G) q1 v yb hi6
    by_cases A : m (72 + 6 * i) = 0
    · rw [if_neg (fun w => w A)]
      obtain ⟨-, ⟨d, hd, ed⟩, -, -, w5, -⟩ := v.st i hi6
      obtain ⟨r, hr, er⟩ := w5 A
      obtain ⟨t, ht, et⟩ := (v.pe r hr).1
      have hd6 : d < 6 := by omega
      have eb : bpF m i = nI t := by unfold bpF; rw [er, nI_clamp (by omega)]; exact et
      rw [if_pos A, er, nI_clamp (show r < 2 ^ 31 by omega), et] at po
      rw [eb, ed, nI_clamp (show t < 2 ^ 31 by omega), nI_clamp (show d < 2 ^ 31 by omega)]
      have go : Wp G 12 mt_X1_lay 57 [.ref x, .int (nI i), .ref (x + 1), .int (nI t)] [] h (fun R => (∃ v h', R = .inl (some v, h') ∧ (0 = 0 ∧ v = .int (nI t) ∧ XW G bs x S hi h l ws m (layR m i (nI t)) h')) ∨ (∃ c h', R = .inr (c, h') ∧ QX h (0, nI t) (k2 20 22) c h')) := by
        refine r_aload_0 rfl ?_
        refine r_invvF rfl rfl o rfl rfl (by decide) (c_xRem Q gx sg hn wb lb) ?_
        rintro h1 ⟨a, K, W, F1⟩
        have K1 := K
        obtain ⟨k1, -, -, -, k5, -, k7, -⟩ := K1
        have g0 := wa_o k1; have gS := wa_st k1
        have k2 := k1.st (p := i) (v := 1) hi9
        have f2 := k1.hf k5 (i := 12) (x := .inl (0, 10, .inl (upd (cl 10 fun p => m (72 + 6 * p)) i 1))) (by decide)
        have g2 := wa_o k2; have gB := wa_by k2
        have k3 := k2.by13 (p := i) (v := nI t) hi9
        have f3 := k2.hf2 f2 (i := 13) (x := .inl (0, 10, .inl (upd (cl 10 b) i (nI t)))) (by decide)
        have g3 := wa_o k3; have gW := wa_we k3
        have u3 : upd m (72 + 6 * i) 1 (71 + 6 * i) = m (71 + 6 * i) := upd_ne (by omega)
        refine r_aload_2 rfl ?_
        refine r_getf rfl (by assumption) (by rfl) ?_
        refine r_iload_1 rfl ?_
        refine r_push rfl ?_
        refine r_iast rfl (gS) (by rfl) (hi9) (by first | decide | omega) ?_
        refine r_aload_2 rfl ?_
        refine r_getf rfl (by assumption) (by rfl) ?_
        refine r_iload_1 rfl ?_
        refine r_iload_3 rfl ?_
        refine r_iast rfl (gB) (by rfl) (hi9) (by first | decide | omega) ?_
        refine r_aload_2 rfl ?_
        refine r_iload_1 rfl ?_
        refine r_push rfl ?_
        refine r_aload_2 rfl ?_
        refine r_getf rfl (by assumption) (by rfl) ?_
        refine r_iload_1 rfl ?_
        refine r_iald rfl (gW) (by rfl) (hi9) (by first | decide | omega) ?_
        rw [cl_in hi9, u3]
        refine r_invvF rfl rfl (g3) rfl rfl (by decide) (c_tells k3 f3.w _ _ _) ?_
        rintro h4 ⟨k4, f4⟩
        refine r_iload_3 rfl ?_
        refine r_iret rfl ?_
        have F2 : HF (InW (x + 1)) 0 0 h1 h4 := (HF.trans f3 f4).mono (fun _ z => z) (Nat.le_refl _) (Nat.le_refl _)
        have er2 : layR m i (nI t) = upd (upd (tlF m (nI i) 4 (m (71 + 6 * i))) (72 + 6 * i) 1) (74 + 6 * i) (nI t) := rfl
        rw [tl_upd (by omega) (by omega) (by omega)] at k4
        refine Or.inl ⟨_, _, rfl, rfl, rfl, xw_fin gx sg K W F1 F2 (k4.same2 (fun k hk => by rw [er2, upd_ne (show k ≠ 74 + 6 * i by omega)])) (layR_ok v hi6 ⟨t, ht, rfl⟩) (b' := upd b i (nI t)) (yb.st hS (fun k h1 h2 h3 => ?_) ?_ (fun z => ?_) (fun _ => ?_)) ?_ ?_ (fun k hk => ?_) (fun k hk => ?_)⟩
        · rw [er2, upd_ne (by omega), upd_ne (by omega), tl_lo (by omega) (by omega)]
        · rw [er2, upd_ne (by omega), upd_ne (by omega), tl_lo (by omega) (by omega)]
        · rw [er2, upd_ne (by omega), upd_eq] at z; exact absurd z (by decide)
        · rw [er2, upd_eq]
        · rw [er2, upd_ne (by omega), upd_ne (by omega), tl_lo (by omega) (by omega)]
        · rw [er2, upd_ne (by omega), upd_ne (by omega), tl_lo (by omega) (by omega)]
        · rw [er2, upd_ne (by omega), upd_ne (by omega), tl_hi hk]
        · rw [er2, upd_ne (by omega), upd_ne (by omega), tl_lo (by omega) (by omega)]
      by_cases B : m (21 + t) = 0
      · by_cases C : m (35 + 6 * d) = nI t
        · rw [if_neg (fun w => w.2 C)]
          refine r_aload_0 rfl ?_
          refine r_getf rfl (by assumption) (by rfl) ?_
          refine r_astore_2 rfl ?_
          refine r_aload_2 rfl ?_
          refine r_iload_1 rfl ?_
          refine r_invvP_1 rfl (o0) rfl rfl (by decide) (po) ?_
          refine r_istore_3 rfl ?_
          refine r_aload_2 rfl ?_
          refine r_getf rfl (by assumption) (by rfl) ?_
          refine r_iload_1 rfl ?_
          refine r_iald rfl (oS) (by rfl) (hi9) (by first | decide | omega) ?_
          rw [cl_in hi9]
          refine r_ifneF rfl (A) ?_
          refine r_aload_2 rfl ?_
          refine r_getf rfl (by assumption) (by rfl) ?_
          refine r_iload_3 rfl ?_
          refine r_zald rfl (oP) (by rfl) (ht) (by first | decide | omega) ?_
          rw [cl_in ht]
          refine r_ifneF rfl (B) ?_
          refine r_aload_2 rfl ?_
          refine r_getf rfl (by assumption) (by rfl) ?_
          refine r_aload_2 rfl ?_
          refine r_getf rfl (by assumption) (by rfl) ?_
          refine r_iload_1 rfl ?_
          refine r_iald rfl (oL) (by rfl) (hi9) (by first | decide | omega) ?_
          rw [cl_in hi9, ed]
          refine r_iald rfl (oT) (by rfl) (hd6) (by first | decide | omega) ?_
          rw [cl_in hd6]
          refine r_iload_3 rfl ?_
          refine r_icneF rfl (C) ?_
          refine r_push rfl ?_
          refine r_goto rfl ?_
          refine r_invO rfl rfl rfl (by decide) (c_canT (by decide)) ?_
          exact go
        · rw [if_pos ⟨B, C⟩]
          refine r_aload_0 rfl ?_
          refine r_getf rfl (by assumption) (by rfl) ?_
          refine r_astore_2 rfl ?_
          refine r_aload_2 rfl ?_
          refine r_iload_1 rfl ?_
          refine r_invvP_1 rfl (o0) rfl rfl (by decide) (po) ?_
          refine r_istore_3 rfl ?_
          refine r_aload_2 rfl ?_
          refine r_getf rfl (by assumption) (by rfl) ?_
          refine r_iload_1 rfl ?_
          refine r_iald rfl (oS) (by rfl) (hi9) (by first | decide | omega) ?_
          rw [cl_in hi9]
          refine r_ifneF rfl (A) ?_
          refine r_aload_2 rfl ?_
          refine r_getf rfl (by assumption) (by rfl) ?_
          refine r_iload_3 rfl ?_
          refine r_zald rfl (oP) (by rfl) (ht) (by first | decide | omega) ?_
          rw [cl_in ht]
          refine r_ifneF rfl (B) ?_
          refine r_aload_2 rfl ?_
          refine r_getf rfl (by assumption) (by rfl) ?_
          refine r_aload_2 rfl ?_
          refine r_getf rfl (by assumption) (by rfl) ?_
          refine r_iload_1 rfl ?_
          refine r_iald rfl (oL) (by rfl) (hi9) (by first | decide | omega) ?_
          rw [cl_in hi9, ed]
          refine r_iald rfl (oT) (by rfl) (hd6) (by first | decide | omega) ?_
          rw [cl_in hd6]
          refine r_iload_3 rfl ?_
          refine r_icneT rfl (C) ?_
          refine r_push rfl ?_
          refine r_invX rfl rfl rfl rfl (by decide) (c_canF rfl) ?_
          exact Or.inr ⟨_, _, rfl, by decide, rfl, rfl⟩
      · rw [if_neg (fun w => B w.1)]
        refine r_aload_0 rfl ?_
        refine r_getf rfl (by assumption) (by rfl) ?_
        refine r_astore_2 rfl ?_
        refine r_aload_2 rfl ?_
        refine r_iload_1 rfl ?_
        refine r_invvP_1 rfl (o0) rfl rfl (by decide) (po) ?_
        refine r_istore_3 rfl ?_
        refine r_aload_2 rfl ?_
        refine r_getf rfl (by assumption) (by rfl) ?_
        refine r_iload_1 rfl ?_
        refine r_iald rfl (oS) (by rfl) (hi9) (by first | decide | omega) ?_
        rw [cl_in hi9]
        refine r_ifneF rfl (A) ?_
        refine r_aload_2 rfl ?_
        refine r_getf rfl (by assumption) (by rfl) ?_
        refine r_iload_3 rfl ?_
        refine r_zald rfl (oP) (by rfl) (ht) (by first | decide | omega) ?_
        rw [cl_in ht]
        refine r_ifneT rfl (B) ?_
        refine r_push rfl ?_
        refine r_goto rfl ?_
        refine r_invO rfl rfl rfl (by decide) (c_canT (by decide)) ?_
        exact go
    · rw [if_pos A]
      refine r_aload_0 rfl ?_
      refine r_getf rfl (by assumption) (by rfl) ?_
      refine r_astore_2 rfl ?_
      refine r_aload_2 rfl ?_
      refine r_iload_1 rfl ?_
      refine r_invvP_1 rfl (o0) rfl rfl (by decide) (po) ?_
      refine r_istore_3 rfl ?_
      refine r_aload_2 rfl ?_
      refine r_getf rfl (by assumption) (by rfl) ?_
      refine r_iload_1 rfl ?_
      refine r_iald rfl (oS) (by rfl) (hi9) (by first | decide | omega) ?_
      rw [cl_in hi9]
      refine r_ifneT rfl (A) ?_
      refine r_push rfl ?_
      refine r_invX rfl rfl rfl rfl (by decide) (c_canF rfl) ?_
      exact Or.inr ⟨_, _, rfl, by decide, rfl, rfl⟩
theorem c_xLift (q : HS G bs x (x + 1) S hi h m b l) (gx : bs ≤ x) (sg : SG bs x S h) (hn : x + 98 ≤ h.2.1) (wb : WB G bs x S h l m ws) (lb : LB m) (z p : Int32) : Xa G 12 m_X1_lift [.ref x, .int z, .int p] bs x S hi h l ws m (liftR m z.toNatClampNeg p) (qLift m z p) (k2 20 22) := by
  have Q := q
  obtain ⟨q1, v, yb, q4, q5, q6, o, s0, q8⟩ := q
  have o0 := wa_o q1; have oS := wa_st q1; have oB := wa_by q1; have oT := wa_at q1
  refine wc_in mt_X1_lift rfl (L := [.ref x, .int z, .int p, am_un]) rfl ?_
  refine r_aload_0 rfl ?_
  refine r_iload_1 rfl ?_
  unfold qLift
  cases e1 : inF z 0 (m 4 - 1) with
  | false =>
    rw [if_pos rfl]
    refine r_invvX rfl rfl o rfl rfl rfl (by decide) (c_stoneAtF o q1 e1) ?_
    exact Or.inr ⟨_, _, rfl, by decide, rfl, rfl⟩
  | true =>
    rw [if_neg (by decide)]
    refine r_invvO rfl rfl o rfl rfl (by decide) (c_stoneAtT o q1 e1) ?_
    refine r_aload_0 rfl ?_
    refine r_iload_2 rfl ?_
    cases e2 : inF p 0 (m 3 - 1) with
    | false =>
      rw [if_pos rfl]
      refine r_invvX rfl rfl o rfl rfl rfl (by decide) (c_personAtF o q1 e2) ?_
      exact Or.inr ⟨_, _, rfl, by decide, rfl, rfl⟩
    | true =>
      rw [if_neg (by decide)]
      refine r_invvO rfl rfl o rfl rfl (by decide) (c_personAtT o q1 e2) ?_
      have e4 := v.ss.1
      have hS := v.ss.2
      have hP := v.pp.2
      rw [e4] at e1
      rw [v.pp.1] at e2
      obtain ⟨i, hi6, rfl⟩ := inF_nI (by omega) e1
      obtain ⟨j, hj6, rfl⟩ := inF_nI (by omega) e2
      have hi9 : i < 10 := by omega
      have hj9 : j < 6 := by omega
      rw [nI_clamp (show i < 2 ^ 31 by omega), nI_clamp (show j < 2 ^ 31 by omega)]
      by_cases A : m (72 + 6 * i) = 1
      · have eb : b i = m (74 + 6 * i) := (yb i hi6).2 A
        by_cases B : m (74 + 6 * i) = m (35 + 6 * j)
        · rw [if_neg (fun w => w.elim (fun w => w A) (fun w => w B))]
          refine r_aload_0 rfl ?_
          refine r_getf rfl (by assumption) (by rfl) ?_
          refine r_astore_3 rfl ?_
          refine r_aload_3 rfl ?_
          refine r_getf rfl (by assumption) (by rfl) ?_
          refine r_iload_1 rfl ?_
          refine r_iald rfl (oS) (by rfl) (hi9) (by first | decide | omega) ?_
          rw [cl_in hi9]
          refine r_push rfl ?_
          refine r_icneF rfl (A) ?_
          refine r_aload_3 rfl ?_
          refine r_getf rfl (by assumption) (by rfl) ?_
          refine r_iload_1 rfl ?_
          refine r_iald rfl (oB) (by rfl) (hi9) (by first | decide | omega) ?_
          rw [cl_in hi9, eb]
          refine r_aload_3 rfl ?_
          refine r_getf rfl (by assumption) (by rfl) ?_
          refine r_iload_2 rfl ?_
          refine r_iald rfl (oT) (by rfl) (hj9) (by first | decide | omega) ?_
          rw [cl_in hj9]
          refine r_icneF rfl (B) ?_
          refine r_push rfl ?_
          refine r_goto rfl ?_
          refine r_invO rfl rfl rfl (by decide) (c_canT (by decide)) ?_
          refine r_aload_0 rfl ?_
          refine r_invvF rfl rfl o rfl rfl (by decide) (c_xRem Q gx sg hn wb lb) ?_
          rintro h1 ⟨a, K, W, F1⟩
          have K1 := K
          obtain ⟨k1, -, -, -, k5, -, k7, -⟩ := K1
          have g0 := wa_o k1; have gS := wa_st k1
          have k2 := k1.st (p := i) (v := 0) hi9
          have f2 := k1.hf k5 (i := 12) (x := .inl (0, 10, .inl (upd (cl 10 fun p => m (72 + 6 * p)) i 0))) (by decide)
          have g2 := wa_o k2; have gB := wa_by k2
          have k3 := k2.by13 (p := i) (v := nI j) hi9
          have f3 := k2.hf2 f2 (i := 13) (x := .inl (0, 10, .inl (upd (cl 10 b) i (nI j)))) (by decide)
          have g3 := wa_o k3; have gW := wa_we k3
          have u3 : upd m (72 + 6 * i) 0 (71 + 6 * i) = m (71 + 6 * i) := upd_ne (by omega)
          have er2 : liftR m i (nI j) = upd (upd (tlF m (nI i) 5 (m (71 + 6 * i))) (72 + 6 * i) 0) (73 + 6 * i) (nI j) := rfl
          have vL := liftR_ok v hi6 ⟨j, hj6, rfl⟩
          have yL : BY (upd b i (nI j)) (liftR m i (nI j)) := yb.st hS (fun k h1 h2 h3 => by rw [er2, upd_ne (by omega), upd_ne (by omega), tl_lo (by omega) (by omega)]) (by rw [er2, upd_ne (by omega), upd_ne (by omega), tl_lo (by omega) (by omega)]) (fun _ => by rw [er2, upd_eq]) (fun z => by rw [er2, upd_ne (by omega), upd_eq] at z; exact absurd z (by decide))
          refine r_aload_3 rfl ?_
          refine r_getf rfl (by assumption) (by rfl) ?_
          refine r_iload_1 rfl ?_
          refine r_push rfl ?_
          refine r_iast rfl (gS) (by rfl) (hi9) (by first | decide | omega) ?_
          refine r_aload_3 rfl ?_
          refine r_getf rfl (by assumption) (by rfl) ?_
          refine r_iload_1 rfl ?_
          refine r_iload_2 rfl ?_
          refine r_iast rfl (gB) (by rfl) (hi9) (by first | decide | omega) ?_
          refine r_aload_3 rfl ?_
          refine r_iload_1 rfl ?_
          refine r_push rfl ?_
          refine r_aload_3 rfl ?_
          refine r_getf rfl (by assumption) (by rfl) ?_
          refine r_iload_1 rfl ?_
          refine r_iald rfl (gW) (by rfl) (hi9) (by first | decide | omega) ?_
          rw [cl_in hi9, u3]
          refine r_invvF rfl rfl (g3) rfl rfl (by decide) (c_tells k3 f3.w _ _ _) ?_
          rintro h4 ⟨k4, f4⟩
          rw [tl_upd (by omega) (by omega) (by omega)] at k4
          have k4 : WA h4 (x + 1) (liftR m i (nI j)) (upd b i (nI j)) l := k4.same2 (fun k hk => by rw [er2, upd_ne (show k ≠ 73 + 6 * i by omega)])
          have F2 : HF (InW (x + 1)) 0 0 h1 h4 := (HF.trans f3 f4).mono (fun _ z => z) (Nat.le_refl _) (Nat.le_refl _)
          have g4 := wa_o k4
          refine r_aload_3 rfl ?_
          refine r_iload_2 rfl ?_
          refine r_invvP_1 rfl (g4) rfl rfl (by decide) (c_load k4 vL yL _) ?_
          refine r_iret rfl ?_
          refine Or.inl ⟨_, _, rfl, rfl, rfl, xw_fin gx sg K W F1 F2 k4 vL yL ?_ ?_ (fun k hk => ?_) (fun k hk => ?_)⟩
          · rw [er2, upd_ne (by omega), upd_ne (by omega), tl_lo (by omega) (by omega)]
          · rw [er2, upd_ne (by omega), upd_ne (by omega), tl_lo (by omega) (by omega)]
          · rw [er2, upd_ne (by omega), upd_ne (by omega), tl_hi hk]
          · rw [er2, upd_ne (by omega), upd_ne (by omega), tl_lo (by omega) (by omega)]
        · rw [if_pos (Or.inr B)]
          refine r_aload_0 rfl ?_
          refine r_getf rfl (by assumption) (by rfl) ?_
          refine r_astore_3 rfl ?_
          refine r_aload_3 rfl ?_
          refine r_getf rfl (by assumption) (by rfl) ?_
          refine r_iload_1 rfl ?_
          refine r_iald rfl (oS) (by rfl) (hi9) (by first | decide | omega) ?_
          rw [cl_in hi9]
          refine r_push rfl ?_
          refine r_icneF rfl (A) ?_
          refine r_aload_3 rfl ?_
          refine r_getf rfl (by assumption) (by rfl) ?_
          refine r_iload_1 rfl ?_
          refine r_iald rfl (oB) (by rfl) (hi9) (by first | decide | omega) ?_
          rw [cl_in hi9, eb]
          refine r_aload_3 rfl ?_
          refine r_getf rfl (by assumption) (by rfl) ?_
          refine r_iload_2 rfl ?_
          refine r_iald rfl (oT) (by rfl) (hj9) (by first | decide | omega) ?_
          rw [cl_in hj9]
          refine r_icneT rfl (B) ?_
          refine r_push rfl ?_
          refine r_invX rfl rfl rfl rfl (by decide) (c_canF rfl) ?_
          exact Or.inr ⟨_, _, rfl, by decide, rfl, rfl⟩
      · rw [if_pos (Or.inl A)]
        refine r_aload_0 rfl ?_
        refine r_getf rfl (by assumption) (by rfl) ?_
        refine r_astore_3 rfl ?_
        refine r_aload_3 rfl ?_
        refine r_getf rfl (by assumption) (by rfl) ?_
        refine r_iload_1 rfl ?_
        refine r_iald rfl (oS) (by rfl) (hi9) (by first | decide | omega) ?_
        rw [cl_in hi9]
        refine r_push rfl ?_
        refine r_icneT rfl (A) ?_
        refine r_push rfl ?_
        refine r_invX rfl rfl rfl rfl (by decide) (c_canF rfl) ?_
        exact Or.inr ⟨_, _, rfl, by decide, rfl, rfl⟩
theorem c_xHours (q : HS G bs x (x + 1) S hi h m b l) (gx : bs ≤ x) (sg : SG bs x S h) (hn : x + 98 ≤ h.2.1) (wb : WB G bs x S h l m ws) (lb : LB m) (n : Int32) : Xa G 48 m_X1_hours [.ref x, .int n] bs x S hi h l ws m (hourN true m n.toNatClampNeg).2 (qHours m n) (k2 18 18) := by
  have Q := q
  obtain ⟨q1, v, yb, q4, q5, q6, o, s0, q8⟩ := q
  refine wc_in mt_X1_hours rfl (L := [.ref x, .int n, am_un, am_un]) rfl ?_
  unfold qHours
  cases e1 : inF n 1 100 with
  | false =>
    rw [if_pos rfl]
    refine r_iload_1 rfl ?_
    refine r_push rfl ?_
    refine r_push rfl ?_
    refine r_invP_3 rfl rfl (by decide) (c_in _ _ _) ?_
    refine r_invX rfl rfl rfl rfl (by decide) (c_demandF (by rw [e1]; rfl)) ?_
    exact Or.inr ⟨_, _, rfl, by decide, rfl, rfl⟩
  | true =>
    rw [if_neg (by decide)]
    obtain ⟨j, hj, rfl⟩ := isN e1
    rw [nI_clamp (show j < 2 ^ 31 by omega)]
    refine r_iload_1 rfl ?_
    refine r_push rfl ?_
    refine r_push rfl ?_
    refine r_invP_3 rfl rfl (by decide) (c_in _ _ _) ?_
    refine r_invO rfl rfl rfl (by decide) (c_demandT (by rw [e1]; decide)) ?_
    refine r_aload_0 rfl ?_
    refine r_invvF rfl rfl o rfl rfl (by decide) (c_xRem Q gx sg hn wb lb) ?_
    rintro h1 ⟨a, K, W, F1⟩
    have g := geo (w := x + 1) gx sg (by omega)
    have K0 : HL G bs x (x + 1) S hi h1 b l m h1 := ⟨K, (HF.refl K.2.2.2.2.1).mono (fun _ z => z) (Nat.le_refl _) (Nat.le_refl _)⟩
    refine r_push rfl ?_
    refine r_istore_2 rfl ?_
    refine r_push rfl ?_
    refine r_istore_3 rfl ?_
    refine c_more (n := j) (dr := true) (fun k => [.ref x, .int (nI j), .int (hourN true m k).1, .int (nI k)]) K0 (fun k h' hk hK kont => ?_) (fun h' hK => ?_)
    · have o := hK.1.2.2.2.2.2.2.1
      refine r_iload_3 rfl ?_
      refine r_iload_1 rfl ?_
      refine r_icgeF rfl (nI_lt hk (by omega)) ?_
      refine r_iload_2 rfl ?_
      refine r_aload_0 rfl ?_
      refine r_aload_0 rfl ?_
      refine r_getf rfl (by assumption) (by rfl) ?_
      refine r_push rfl ?_
      refine r_invvE rfl rfl (by assumption) rfl rfl (by decide) (c_anHour (dr := true) hK g) ?_
      rintro v h2 ⟨rfl, q2⟩
      refine r_iadd rfl ?_
      refine r_istore_2 rfl ?_
      refine r_iinc_3 rfl ?_
      refine r_goto rfl ?_
      rw [nI_1]
      exact kont _ q2
    · obtain ⟨v', y', kr⟩ := hourN_ok (dr := true) v yb j
      refine r_iload_3 rfl ?_
      refine r_iload_1 rfl ?_
      refine r_icgeT rfl (Int32.le_refl _) ?_
      refine r_iload_2 rfl ?_
      refine r_iret rfl ?_
      exact Or.inl ⟨_, _, rfl, rfl, rfl, a, b, hK.1, W.kp hK.2 (fun z hz => by unfold HP InW at hz; omega), (HF.trans (F1.mono (fun z hz => Or.inr hz) (Nat.le_refl _) (Nat.le_refl _)) (hK.2.mono (fun z hz => Or.inl hz) (Nat.le_refl _) (Nat.le_refl _))).mono (fun _ z => z) (Nat.le_refl _) (Nat.le_refl _), kr.1, fun k hk => hourN_b v yb j k hk⟩
end
