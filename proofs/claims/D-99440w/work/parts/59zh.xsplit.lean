/-! ACTS of the system: split, pass -/
set_option maxRecDepth 100000
theorem splR_by {b m : Nat → Int32} (y : BY b m) (v : VR m) {z : Nat} (hz : z < nS m) (hs : nS m < 10) : BY (upd b (nS m) (b z)) (splR m z) := by
  have e4 := v.ss.1
  have eS : nS (splR m z) = nS m + 1 := by
    unfold nS splR
    rw [upd_eq, e4, nI_1, nI_clamp (by omega), nI_clamp (by omega)]
  have at_ : ∀ j, j < 6 → j ≠ 2 → splR m z (69 + 6 * nS m + j) = m (69 + 6 * z + j) := fun j hj h2 => by
    unfold splR
    rw [upd_ne (by omega), upd_ne (by omega), upd_ne (by omega), cpS_at, if_pos (by omega), tl_lo (by omega) (by omega)]
    congr 1
    omega
  have lo : ∀ k, 69 ≤ k → k < 69 + 6 * nS m → k ≠ 71 + 6 * z → splR m z k = m k := fun k h1 h2 h3 => by
    unfold splR
    rw [upd_ne (by omega), upd_ne h3, upd_ne (by omega), cpS_at, if_neg (by omega), tl_lo (by omega) (by omega)]
  intro r hr
  rw [eS] at hr
  by_cases k : r = nS m
  · subst k
    have y0 := y z hz
    rw [upd_eq, show 72 + 6 * nS m = 69 + 6 * nS m + 3 by omega, show 73 + 6 * nS m = 69 + 6 * nS m + 4 by omega, show 74 + 6 * nS m = 69 + 6 * nS m + 5 by omega, at_ 3 (by decide) (by decide), at_ 4 (by decide) (by decide), at_ 5 (by decide) (by decide), show 69 + 6 * z + 3 = 72 + 6 * z by omega, show 69 + 6 * z + 4 = 73 + 6 * z by omega, show 69 + 6 * z + 5 = 74 + 6 * z by omega]
    exact y0
  · rw [upd_ne k, lo _ (by omega) (by omega) (by omega), lo _ (by omega) (by omega) (by omega), lo _ (by omega) (by omega) (by omega)]
    exact y r (by omega)
section
variable {G : am_G} {bs x : Nat} {S : Nat → Prop} {hi : Bool} {h h1 h2 : am_H} {m m' b b' : Nat → Int32} {l : Value} {ws ws' : List (Nat × (Nat → Int32))} {a : Nat}
theorem nI_le1q {i : Nat} (h : i < 100) (h0 : nI i ≠ 0) : nI i ≤ 1 ↔ nI i = 1 := by
  have : ∀ i, i < 100 → nI i ≠ 0 → (nI i ≤ 1 ↔ nI i = 1) := by decide +kernel
  exact this i h h0
theorem c_xSplit (q : HS G bs x (x + 1) S hi h m b l) (gx : bs ≤ x) (sg : SG bs x S h) (hn : x + 98 ≤ h.2.1) (wb : WB G bs x S h l m ws) (lb : LB m) (z : Int32) : Xa G 12 m_X1_split [.ref x, .int z] bs x S hi h l ws m (splR m z.toNatClampNeg) (qSplit m z) (k2 20 22) := by
  have Q := q
  obtain ⟨q1, v, yb, q4, q5, q6, o, s0, q8⟩ := q
  have o0 := wa_o q1; have oS := wa_st q1; have oW := wa_we q1
  refine wc_in mt_X1_split rfl (L := [.ref x, .int z, am_un, am_un, am_un]) rfl ?_
  refine r_aload_0 rfl ?_
  refine r_iload_1 rfl ?_
  unfold qSplit
  cases e1 : inF z 0 (m 4 - 1) with
  | false =>
    rw [if_pos rfl]
    refine r_invvX rfl rfl o rfl rfl rfl (by decide) (c_stoneAtF o q1 e1) ?_
    exact Or.inr ⟨_, _, rfl, by decide, rfl, rfl⟩
  | true =>
    rw [if_neg (by decide)]
    refine r_invvO rfl rfl o rfl rfl (by decide) (c_stoneAtT o q1 e1) ?_
    have e4 := v.ss.1
    rw [e4] at e1
    have hS := v.ss.2
    obtain ⟨i, hi6, rfl⟩ := inF_nI (by omega) e1
    have hi9 : i < 10 := by omega
    obtain ⟨w1, w2, ⟨⟨wv, hwv, ew⟩, w3⟩, -⟩ := v.st i hi6
    have le1 : m (71 + 6 * i) ≤ 1 ↔ m (71 + 6 * i) = 1 := by rw [ew]; exact nI_le1q (by omega) (by rw [← ew]; exact w3)
    rw [nI_clamp (show i < 2 ^ 31 by omega)]
    by_cases A : m (72 + 6 * i) = 2
    · rw [if_pos (Or.inl A)]
      refine r_aload_0 rfl ?_
      refine r_getf rfl (by assumption) (by rfl) ?_
      refine r_astore_2 rfl ?_
      refine r_aload_2 rfl ?_
      refine r_getf rfl (by assumption) (by rfl) ?_
      refine r_iload_1 rfl ?_
      refine r_iald rfl (oS) (by rfl) (hi9) (by first | decide | omega) ?_
      rw [cl_in hi9]
      refine r_push rfl ?_
      refine r_iceqT rfl (A) ?_
      refine r_push rfl ?_
      refine r_invX rfl rfl rfl rfl (by decide) (c_canF rfl) ?_
      exact Or.inr ⟨_, _, rfl, by decide, rfl, rfl⟩
    · by_cases B : m (71 + 6 * i) = 1
      · rw [if_pos (Or.inr (Or.inl B))]
        refine r_aload_0 rfl ?_
        refine r_getf rfl (by assumption) (by rfl) ?_
        refine r_astore_2 rfl ?_
        refine r_aload_2 rfl ?_
        refine r_getf rfl (by assumption) (by rfl) ?_
        refine r_iload_1 rfl ?_
        refine r_iald rfl (oS) (by rfl) (hi9) (by first | decide | omega) ?_
        rw [cl_in hi9]
        refine r_push rfl ?_
        refine r_iceqF rfl (A) ?_
        refine r_aload_2 rfl ?_
        refine r_getf rfl (by assumption) (by rfl) ?_
        refine r_iload_1 rfl ?_
        refine r_iald rfl (oW) (by rfl) (hi9) (by first | decide | omega) ?_
        rw [cl_in hi9]
        refine r_push rfl ?_
        refine r_icleT rfl (le1.mpr B) ?_
        refine r_push rfl ?_
        refine r_invX rfl rfl rfl rfl (by decide) (c_canF rfl) ?_
        exact Or.inr ⟨_, _, rfl, by decide, rfl, rfl⟩
      · have nB : 1 < m (71 + 6 * i) := Int32.not_le.mp (fun z => B (le1.mp z))
        by_cases C : m 4 = 10
        · rw [if_pos (Or.inr (Or.inr C))]
          refine r_aload_0 rfl ?_
          refine r_getf rfl (by assumption) (by rfl) ?_
          refine r_astore_2 rfl ?_
          refine r_aload_2 rfl ?_
          refine r_getf rfl (by assumption) (by rfl) ?_
          refine r_iload_1 rfl ?_
          refine r_iald rfl (oS) (by rfl) (hi9) (by first | decide | omega) ?_
          rw [cl_in hi9]
          refine r_push rfl ?_
          refine r_iceqF rfl (A) ?_
          refine r_aload_2 rfl ?_
          refine r_getf rfl (by assumption) (by rfl) ?_
          refine r_iload_1 rfl ?_
          refine r_iald rfl (oW) (by rfl) (hi9) (by first | decide | omega) ?_
          rw [cl_in hi9]
          refine r_push rfl ?_
          refine r_icleF rfl (nB) ?_
          refine r_aload_2 rfl ?_
          refine r_getf rfl (by assumption) (by rfl) ?_
          refine r_push rfl ?_
          refine r_icgeT rfl (by rw [C]; decide) ?_
          refine r_push rfl ?_
          refine r_invX rfl rfl rfl rfl (by decide) (c_canF rfl) ?_
          exact Or.inr ⟨_, _, rfl, by decide, rfl, rfl⟩
        · rw [if_neg (fun z => z.elim A (fun z => z.elim B C))]
          have hs10 : nS m < 10 := by
            rcases Nat.lt_or_eq_of_le hS with z | z
            · exact z
            · rw [z] at e4; exact absurd e4 C
          refine r_aload_0 rfl ?_
          refine r_getf rfl (by assumption) (by rfl) ?_
          refine r_astore_2 rfl ?_
          refine r_aload_2 rfl ?_
          refine r_getf rfl (by assumption) (by rfl) ?_
          refine r_iload_1 rfl ?_
          refine r_iald rfl (oS) (by rfl) (hi9) (by first | decide | omega) ?_
          rw [cl_in hi9]
          refine r_push rfl ?_
          refine r_iceqF rfl (A) ?_
          refine r_aload_2 rfl ?_
          refine r_getf rfl (by assumption) (by rfl) ?_
          refine r_iload_1 rfl ?_
          refine r_iald rfl (oW) (by rfl) (hi9) (by first | decide | omega) ?_
          rw [cl_in hi9]
          refine r_push rfl ?_
          refine r_icleF rfl (nB) ?_
          refine r_aload_2 rfl ?_
          refine r_getf rfl (by assumption) (by rfl) ?_
          refine r_push rfl ?_
          refine r_icgeF rfl (by rw [e4]; exact nI_lt hs10 (by decide)) ?_
          refine r_push rfl ?_
          refine r_goto rfl ?_
          refine r_invO rfl rfl rfl (by decide) (c_canT (by decide)) ?_
          refine r_aload_0 rfl ?_
          refine r_invvF rfl rfl o rfl rfl (by decide) (c_xRem Q gx sg hn wb lb) ?_
          rintro h1 ⟨a, K, W, F1⟩
          have K1 := K
          obtain ⟨k1, -, -, -, k5, -, k7, -⟩ := K1
          have g0 := wa_o k1; have gW := wa_we k1
          refine r_aload_2 rfl ?_
          refine r_iload_1 rfl ?_
          refine r_push rfl ?_
          refine r_aload_2 rfl ?_
          refine r_getf rfl (by assumption) (by rfl) ?_
          refine r_iload_1 rfl ?_
          refine r_iald rfl (gW) (by rfl) (hi9) (by first | decide | omega) ?_
          rw [cl_in hi9]
          refine r_invvF rfl rfl (g0) rfl rfl (by decide) (c_tells k1 k5 _ _ _) ?_
          rintro h2 ⟨k2, f2⟩
          have k2 : WA h2 (x + 1) (tlF m (nI i) 2 (m (71 + 6 * i))) b l := k2
          have g2 := wa_o k2; have gD := wa_de k2; have gL := wa_le k2; have gW2 := wa_we k2; have gB := wa_by k2
          have u1 : tlF m (nI i) 2 (m (71 + 6 * i)) (71 + 6 * i) = m (71 + 6 * i) := tl_lo (by omega) (by omega)
          have u2 : tlF m (nI i) 2 (m (71 + 6 * i)) 4 = nI (nS m) := by rw [tl_lo (by omega) (by omega), e4]
          have er : ∀ k, (k < 69 ∨ 129 ≤ k ∨ (k - 69) % 6 < 4) → splR m i k = upd (upd (adF (tlF m (nI i) 2 (m (71 + 6 * i))) (m (69 + 6 * i)) (m (70 + 6 * i)) (m (71 + 6 * i) / 2) (b i)) (72 + 6 * nS m) (m (72 + 6 * i))) (71 + 6 * i) (m (71 + 6 * i) - m (71 + 6 * i) / 2) k := fun k hk => by
            obtain ⟨z1, z2, z3, z4, z5, z6, z7⟩ := ad_at (a := m (69 + 6 * i)) (c := m (70 + 6 * i)) (n := m (71 + 6 * i) / 2) (w := b i) u2 hs10
            unfold splR
            by_cases d1 : k = 71 + 6 * i
            · subst d1; rw [upd_ne (by omega), upd_eq, upd_eq]
            · rw [upd_ne d1]
              by_cases d4 : k = 4
              · subst d4; rw [upd_eq, upd_ne (by omega), z7, e4, nI_1]
              · rw [upd_ne d4, upd_ne d1]
                by_cases d2 : 69 + 6 * nS m ≤ k ∧ k < 69 + 6 * nS m + 6
                · rcases (show k = 69 + 6 * nS m ∨ k = 70 + 6 * nS m ∨ k = 71 + 6 * nS m ∨ k = 72 + 6 * nS m by omega) with rfl | rfl | rfl | rfl
                  · rw [upd_ne (by omega), upd_ne (by omega), z1, cpS_at, if_pos d2, tl_lo (by omega) (by omega)]; congr 1; omega
                  · rw [upd_ne (by omega), upd_ne (by omega), z2, cpS_at, if_pos d2, tl_lo (by omega) (by omega)]; congr 1; omega
                  · rw [upd_eq, upd_ne (by omega), z3]
                  · rw [upd_ne (by omega), upd_eq, cpS_at, if_pos d2, tl_lo (by omega) (by omega)]; congr 1; omega
                · rw [upd_ne (by omega), upd_ne (by omega), ad_lo u2 hs10 (by omega) d4, cpS_at, if_neg d2]
          refine r_aload_2 rfl ?_
          refine r_getf rfl (by assumption) (by rfl) ?_
          refine r_iload_1 rfl ?_
          refine r_iald rfl (gW2) (by rfl) (hi9) (by first | decide | omega) ?_
          rw [cl_in hi9, u1]
          refine r_push rfl ?_
          refine r_idiv rfl (by decide) ?_
          refine r_istore_3 rfl ?_
          refine r_aload_2 rfl ?_
          refine r_aload_2 rfl ?_
          refine r_getf rfl (by assumption) (by rfl) ?_
          refine r_iload_1 rfl ?_
          refine r_iald rfl (gD) (by rfl) (hi9) (by first | decide | omega) ?_
          rw [cl_in hi9, tl_lo (by omega) (by omega)]
          refine r_aload_2 rfl ?_
          refine r_getf rfl (by assumption) (by rfl) ?_
          refine r_iload_1 rfl ?_
          refine r_iald rfl (gL) (by rfl) (hi9) (by first | decide | omega) ?_
          rw [cl_in hi9, tl_lo (by omega) (by omega)]
          refine r_iload_3 rfl ?_
          refine r_aload_2 rfl ?_
          refine r_getf rfl (by assumption) (by rfl) ?_
          refine r_iload_1 rfl ?_
          refine r_iald rfl (gB) (by rfl) (hi9) (by first | decide | omega) ?_
          rw [cl_in hi9]
          refine r_invvE rfl rfl (g2) rfl rfl (by decide) (c_adds k2 f2.w hs10 u2 _ _ _ _) ?_
          rintro v3 h3 ⟨rfl, k3, f3⟩
          have g3 := wa_o k3; have gS := wa_st k3
          have u3 : adF (tlF m (nI i) 2 (m (71 + 6 * i))) (m (69 + 6 * i)) (m (70 + 6 * i)) (m (71 + 6 * i) / 2) (b i) (72 + 6 * i) = m (72 + 6 * i) := by rw [ad_lo u2 hs10 (by omega) (by omega), tl_lo (by omega) (by omega)]
          have k4 := k3.st (p := nS m) (v := m (72 + 6 * i)) hs10
          have f4 := k3.hf f3.w (i := 12) (x := .inl (0, 10, .inl (upd (cl 10 fun p => adF (tlF m (nI i) 2 (m (71 + 6 * i))) (m (69 + 6 * i)) (m (70 + 6 * i)) (m (71 + 6 * i) / 2) (b i) (72 + 6 * p)) (nS m) (m (72 + 6 * i))))) (by decide)
          have g4 := wa_o k4; have gW4 := wa_we k4
          have u4 : upd (adF (tlF m (nI i) 2 (m (71 + 6 * i))) (m (69 + 6 * i)) (m (70 + 6 * i)) (m (71 + 6 * i) / 2) (b i)) (72 + 6 * nS m) (m (72 + 6 * i)) (71 + 6 * i) = m (71 + 6 * i) := by rw [upd_ne (by omega), ad_lo u2 hs10 (by omega) (by omega), tl_lo (by omega) (by omega)]
          have k5 := k4.we (p := i) (v := m (71 + 6 * i) - m (71 + 6 * i) / 2) hi9
          refine r_istore_4 rfl ?_
          refine r_aload_2 rfl ?_
          refine r_getf rfl (by assumption) (by rfl) ?_
          refine r_iload_4 rfl ?_
          refine r_aload_2 rfl ?_
          refine r_getf rfl (by assumption) (by rfl) ?_
          refine r_iload_1 rfl ?_
          refine r_iald rfl (gS) (by rfl) (hi9) (by first | decide | omega) ?_
          rw [cl_in hi9, u3]
          refine r_iast rfl (gS) (by rfl) (hs10) (by first | decide | omega) ?_
          refine r_aload_2 rfl ?_
          refine r_getf rfl (by assumption) (by rfl) ?_
          refine r_iload_1 rfl ?_
          refine r_dup2 rfl ?_
          refine r_iald rfl (gW4) (by rfl) (hi9) (by first | decide | omega) ?_
          rw [cl_in hi9, u4]
          refine r_iload_3 rfl ?_
          refine r_isub rfl ?_
          refine r_iast rfl (gW4) (by rfl) (hi9) (by first | decide | omega) ?_
          refine r_iload_4 rfl ?_
          refine r_iret rfl ?_
          have F2 := k4.hf2 (HF.mono (HF.trans (HF.trans f2 f3) f4) (fun _ z => z) (Nat.le_refl _) (Nat.le_refl _)) (i := 11) (x := .inl (0, 10, .inl (upd (cl 10 fun p => upd (adF (tlF m (nI i) 2 (m (71 + 6 * i))) (m (69 + 6 * i)) (m (70 + 6 * i)) (m (71 + 6 * i) / 2) (b i)) (72 + 6 * nS m) (m (72 + 6 * i)) (71 + 6 * p)) i (m (71 + 6 * i) - m (71 + 6 * i) / 2)))) (by decide)
          have sl : ∀ k, (k < 9 ∨ 369 ≤ k) → k ≠ 4 → k ≠ 7 → splR m i k = m k := fun k hk h4 h7 => by
            unfold splR
            rw [upd_ne h4, upd_ne (by omega), upd_ne (by omega), cpS_at, if_neg (by omega)]
            rcases hk with hk | hk
            · exact tl_lo (by omega) h7
            · exact tl_hi hk
          exact Or.inl ⟨_, _, rfl, rfl, by rw [e4], xw_fin gx sg K W F1 F2 (k5.same2 er) (splR_ok v hi6 hs10 B) (splR_by yb v hi6 hs10) (sl 1 (by omega) (by omega) (by omega)) (sl 2 (by omega) (by omega) (by omega)) (fun k hk => sl k (Or.inr hk) (by omega) (by omega)) (fun k hk => by unfold splR; rw [upd_ne (by omega), upd_ne (by omega), upd_ne (by omega), cpS_at, if_neg (by omega), tl_lo (by omega) (by omega)])⟩
theorem c_xPass (q : HS G bs x (x + 1) S hi h m b l) (gx : bs ≤ x) (sg : SG bs x S h) (hn : x + 98 ≤ h.2.1) (wb : WB G bs x S h l m ws) (lb : LB m) (z p : Int32) : Xa G 12 m_X1_pass [.ref x, .int z, .int p] bs x S hi h l ws m (passR m z.toNatClampNeg p) (qPass m z p) (k3 20 18 22) := by
  have Q := q
  obtain ⟨q1, v, yb, q4, q5, q6, o, s0, q8⟩ := q
  have o0 := wa_o q1; have oS := wa_st q1; have oB := wa_by q1; have oT := wa_at q1
  refine wc_in mt_X1_pass rfl (L := [.ref x, .int z, .int p, am_un, am_un, am_un]) rfl ?_
  refine r_aload_0 rfl ?_
  refine r_iload_1 rfl ?_
  unfold qPass
  cases e1 : inF z 0 (m 4 - 1) with
  | false =>
    rw [if_pos rfl]
    refine r_invvX rfl rfl o rfl rfl rfl (by decide) (c_stoneAtF o q1 e1) ?_
    exact Or.inr ⟨_, _, rfl, by decide, rfl, rfl⟩
  | true =>
    rw [if_neg (by decide)]
    refine r_invvO rfl rfl o rfl rfl (by decide) (c_stoneAtT o q1 e1) ?_
    refine r_aload_0 rfl ?_
    refine r_iload_2 rfl ?_
    cases e2 : inF p 0 (m 3 - 1) with
    | false =>
      rw [if_pos rfl]
      refine r_invvX rfl rfl o rfl rfl rfl (by decide) (c_personAtF o q1 e2) ?_
      exact Or.inr ⟨_, _, rfl, by decide, rfl, rfl⟩
    | true =>
      rw [if_neg (by decide)]
      refine r_invvO rfl rfl o rfl rfl (by decide) (c_personAtT o q1 e2) ?_
      have e4 := v.ss.1
      have hS := v.ss.2
      have hP := v.pp.2
      rw [e4] at e1
      rw [v.pp.1] at e2
      obtain ⟨i, hi6, rfl⟩ := inF_nI (by omega) e1
      obtain ⟨j, hj6, rfl⟩ := inF_nI (by omega) e2
      have hi9 : i < 10 := by omega
      have hj9 : j < 6 := by omega
      rw [nI_clamp (show i < 2 ^ 31 by omega), nI_clamp (show j < 2 ^ 31 by omega)]
      by_cases A : m (72 + 6 * i) = 0
      · obtain ⟨r, hr, er⟩ := (v.st i hi6).2.2.2.2.1 A
        have hr6 : r < 6 := by omega
        have eb : b i = nI r := by rw [(yb i hi6).1 A, er]
        by_cases B : m (73 + 6 * i) = nI j
        · rw [if_pos ⟨A, B⟩]
          have eb2 : nI r = nI j := er.symm.trans B
          refine r_aload_0 rfl ?_
          refine r_getf rfl (by assumption) (by rfl) ?_
          refine r_astore_3 rfl ?_
          refine r_aload_3 rfl ?_
          refine r_getf rfl (by assumption) (by rfl) ?_
          refine r_iload_1 rfl ?_
          refine r_iald rfl (oS) (by rfl) (hi9) (by first | decide | omega) ?_
          rw [cl_in hi9]
          refine r_ifneF rfl (A) ?_
          refine r_push rfl ?_
          refine r_goto rfl ?_
          refine r_istore_4 rfl ?_
          refine r_iload_4 rfl ?_
          refine r_ifeqF rfl (by decide) ?_
          refine r_aload_3 rfl ?_
          refine r_getf rfl (by assumption) (by rfl) ?_
          refine r_iload_1 rfl ?_
          refine r_iald rfl (oB) (by rfl) (hi9) (by first | decide | omega) ?_
          rw [cl_in hi9, eb]
          refine r_iload_2 rfl ?_
          refine r_iceqT rfl (eb2) ?_
          refine r_push rfl ?_
          refine r_invX rfl rfl rfl rfl (by decide) (c_demandF rfl) ?_
          exact Or.inr ⟨_, _, rfl, by decide, rfl, rfl⟩
        · have nB : nI r ≠ nI j := fun z => B (er.trans z)
          rw [if_neg (fun w => B w.2), er, nI_clamp (show r < 2 ^ 31 by omega)]
          by_cases C : m (35 + 6 * j) = m (35 + 6 * r)
          · rw [if_neg (fun w => w ⟨A, C⟩)]
            refine r_aload_0 rfl ?_
            refine r_getf rfl (by assumption) (by rfl) ?_
            refine r_astore_3 rfl ?_
            refine r_aload_3 rfl ?_
            refine r_getf rfl (by assumption) (by rfl) ?_
            refine r_iload_1 rfl ?_
            refine r_iald rfl (oS) (by rfl) (hi9) (by first | decide | omega) ?_
            rw [cl_in hi9]
            refine r_ifneF rfl (A) ?_
            refine r_push rfl ?_
            refine r_goto rfl ?_
            refine r_istore_4 rfl ?_
            refine r_iload_4 rfl ?_
            refine r_ifeqF rfl (by decide) ?_
            refine r_aload_3 rfl ?_
            refine r_getf rfl (by assumption) (by rfl) ?_
            refine r_iload_1 rfl ?_
            refine r_iald rfl (oB) (by rfl) (hi9) (by first | decide | omega) ?_
            rw [cl_in hi9, eb]
            refine r_iload_2 rfl ?_
            refine r_iceqF rfl (nB) ?_
            refine r_push rfl ?_
            refine r_goto rfl ?_
            refine r_invO rfl rfl rfl (by decide) (c_demandT (by decide)) ?_
            refine r_iload_4 rfl ?_
            refine r_ifeqF rfl (by decide) ?_
            refine r_aload_3 rfl ?_
            refine r_getf rfl (by assumption) (by rfl) ?_
            refine r_aload_3 rfl ?_
            refine r_getf rfl (by assumption) (by rfl) ?_
            refine r_iload_1 rfl ?_
            refine r_iald rfl (oB) (by rfl) (hi9) (by first | decide | omega) ?_
            rw [cl_in hi9, eb]
            refine r_iald rfl (oT) (by rfl) (hr6) (by first | decide | omega) ?_
            rw [cl_in hr6]
            refine r_aload_3 rfl ?_
            refine r_getf rfl (by assumption) (by rfl) ?_
            refine r_iload_2 rfl ?_
            refine r_iald rfl (oT) (by rfl) (hj9) (by first | decide | omega) ?_
            rw [cl_in hj9]
            refine r_icneF rfl (C.symm) ?_
            refine r_push rfl ?_
            refine r_goto rfl ?_
            refine r_invO rfl rfl rfl (by decide) (c_canT (by decide)) ?_
            refine r_aload_0 rfl ?_
            refine r_invvF rfl rfl o rfl rfl (by decide) (c_xRem Q gx sg hn wb lb) ?_
            rintro h1 ⟨a, K, W, F1⟩
            have K1 := K
            obtain ⟨k1, -, -, -, k5, -, k7, -⟩ := K1
            have g0 := wa_o k1; have gB := wa_by k1
            have k2 := k1.by13 (p := i) (v := nI j) hi9
            have f2 := k1.hf k5 (i := 13) (x := .inl (0, 10, .inl (upd (cl 10 b) i (nI j)))) (by decide)
            have g2 := wa_o k2; have gW := wa_we k2
            have er2 : passR m i (nI j) = upd (tlF m (nI i) 3 (m (71 + 6 * i))) (73 + 6 * i) (nI j) := rfl
            refine r_aload_3 rfl ?_
            refine r_getf rfl (by assumption) (by rfl) ?_
            refine r_iload_1 rfl ?_
            refine r_iald rfl (gB) (by rfl) (hi9) (by first | decide | omega) ?_
            rw [cl_in hi9, eb]
            refine r_istore_5 rfl ?_
            refine r_aload_3 rfl ?_
            refine r_getf rfl (by assumption) (by rfl) ?_
            refine r_iload_1 rfl ?_
            refine r_iload_2 rfl ?_
            refine r_iast rfl (gB) (by rfl) (hi9) (by first | decide | omega) ?_
            refine r_aload_3 rfl ?_
            refine r_iload_1 rfl ?_
            refine r_push rfl ?_
            refine r_aload_3 rfl ?_
            refine r_getf rfl (by assumption) (by rfl) ?_
            refine r_iload_1 rfl ?_
            refine r_iald rfl (gW) (by rfl) (hi9) (by first | decide | omega) ?_
            rw [cl_in hi9]
            refine r_invvF rfl rfl (g2) rfl rfl (by decide) (c_tells k2 f2.w _ _ _) ?_
            rintro h3 ⟨k3, f3⟩
            refine r_iload_5 rfl ?_
            refine r_iret rfl ?_
            have F2 : HF (InW (x + 1)) 0 0 h1 h3 := (HF.trans f2 f3).mono (fun _ z => z) (Nat.le_refl _) (Nat.le_refl _)
            refine Or.inl ⟨_, _, rfl, rfl, rfl, xw_fin gx sg K W F1 F2 (k3.same2 (fun k hk => by rw [er2, upd_ne (by omega)])) (passR_ok v hi6 A ⟨j, hj6, rfl⟩) (b' := upd b i (nI j)) (yb.st hS (fun k h1 h2 h3 => ?_) ?_ (fun _ => ?_) (fun z => ?_)) ?_ ?_ (fun k hk => ?_) (fun k hk => ?_)⟩
            · rw [er2, upd_ne (by omega), tl_lo (by omega) (by omega)]
            · rw [er2, upd_ne (by omega), tl_lo (by omega) (by omega)]
            · rw [er2, upd_eq]
            · rw [er2, upd_ne (by omega), tl_lo (by omega) (by omega), A] at z; exact absurd z (by decide)
            · rw [er2, upd_ne (by omega), tl_lo (by omega) (by omega)]
            · rw [er2, upd_ne (by omega), tl_lo (by omega) (by omega)]
            · rw [er2, upd_ne (by omega), tl_hi hk]
            · rw [er2, upd_ne (by omega), tl_lo (by omega) (by omega)]
          · rw [if_pos (fun w => C w.2)]
            refine r_aload_0 rfl ?_
            refine r_getf rfl (by assumption) (by rfl) ?_
            refine r_astore_3 rfl ?_
            refine r_aload_3 rfl ?_
            refine r_getf rfl (by assumption) (by rfl) ?_
            refine r_iload_1 rfl ?_
            refine r_iald rfl (oS) (by rfl) (hi9) (by first | decide | omega) ?_
            rw [cl_in hi9]
            refine r_ifneF rfl (A) ?_
            refine r_push rfl ?_
            refine r_goto rfl ?_
            refine r_istore_4 rfl ?_
            refine r_iload_4 rfl ?_
            refine r_ifeqF rfl (by decide) ?_
            refine r_aload_3 rfl ?_
            refine r_getf rfl (by assumption) (by rfl) ?_
            refine r_iload_1 rfl ?_
            refine r_iald rfl (oB) (by rfl) (hi9) (by first | decide | omega) ?_
            rw [cl_in hi9, eb]
            refine r_iload_2 rfl ?_
            refine r_iceqF rfl (nB) ?_
            refine r_push rfl ?_
            refine r_goto rfl ?_
            refine r_invO rfl rfl rfl (by decide) (c_demandT (by decide)) ?_
            refine r_iload_4 rfl ?_
            refine r_ifeqF rfl (by decide) ?_
            refine r_aload_3 rfl ?_
            refine r_getf rfl (by assumption) (by rfl) ?_
            refine r_aload_3 rfl ?_
            refine r_getf rfl (by assumption) (by rfl) ?_
            refine r_iload_1 rfl ?_
            refine r_iald rfl (oB) (by rfl) (hi9) (by first | decide | omega) ?_
            rw [cl_in hi9, eb]
            refine r_iald rfl (oT) (by rfl) (hr6) (by first | decide | omega) ?_
            rw [cl_in hr6]
            refine r_aload_3 rfl ?_
            refine r_getf rfl (by assumption) (by rfl) ?_
            refine r_iload_2 rfl ?_
            refine r_iald rfl (oT) (by rfl) (hj9) (by first | decide | omega) ?_
            rw [cl_in hj9]
            refine r_icneT rfl (fun z => C z.symm) ?_
            refine r_push rfl ?_
            refine r_invX rfl rfl rfl rfl (by decide) (c_canF rfl) ?_
            exact Or.inr ⟨_, _, rfl, by decide, rfl, rfl⟩
      · rw [if_neg (fun w => A w.1), if_pos (fun w => A w.1)]
        refine r_aload_0 rfl ?_
        refine r_getf rfl (by assumption) (by rfl) ?_
        refine r_astore_3 rfl ?_
        refine r_aload_3 rfl ?_
        refine r_getf rfl (by assumption) (by rfl) ?_
        refine r_iload_1 rfl ?_
        refine r_iald rfl (oS) (by rfl) (hi9) (by first | decide | omega) ?_
        rw [cl_in hi9]
        refine r_ifneT rfl (A) ?_
        refine r_push rfl ?_
        refine r_istore_4 rfl ?_
        refine r_iload_4 rfl ?_
        refine r_ifeqT rfl (rfl) ?_
        refine r_push rfl ?_
        refine r_goto rfl ?_
        refine r_invO rfl rfl rfl (by decide) (c_demandT (by decide)) ?_
        refine r_iload_4 rfl ?_
        refine r_ifeqT rfl (rfl) ?_
        refine r_push rfl ?_
        refine r_invX rfl rfl rfl rfl (by decide) (c_canF rfl) ?_
        exact Or.inr ⟨_, _, rfl, by decide, rfl, rfl⟩
end
