/-! ACTS of the system: lend, pay -/
set_option maxRecDepth 100000
section
variable {G : am_G} {bs x : Nat} {S : Nat → Prop} {hi : Bool} {h h1 h2 : am_H} {m m' b b' : Nat → Int32} {l : Value} {ws ws' : List (Nat × (Nat → Int32))} {a : Nat}
theorem tl_hi {m : Nat → Int32} {z w n : Int32} {k : Nat} (h : 369 ≤ k) : tlF m z w n k = m k := by
  unfold tlF
  rw [if_neg (by omega), if_neg (by omega), if_neg (by omega), if_neg (by omega), if_neg (by omega), if_neg (by omega)]
theorem c_xLend (q : HS G bs x (x + 1) S hi h m b l) (gx : bs ≤ x) (sg : SG bs x S h) (hn : x + 98 ≤ h.2.1) (wb : WB G bs x S h l m ws) (lb : LB m) (c p w : Int32) : Xa G 12 m_X1_lend [.ref x, .int c, .int p, .int w] bs x S hi h l ws m (lendR m c.toNatClampNeg p.toNatClampNeg w) (qLend m c p w) (k3 20 18 22) := by
  have Q := q
  obtain ⟨q1, v, yb, q4, q5, q6, o, s0, q8⟩ := q
  have o0 := wa_o q1; have oP := wa_pu q1
  refine wc_in mt_X1_lend rfl (L := [.ref x, .int c, .int p, .int w, am_un]) rfl ?_
  refine r_aload_0 rfl ?_
  refine r_iload_1 rfl ?_
  unfold qLend
  cases e1 : inF c 0 (m 3 - 1) with
  | false =>
    rw [if_pos rfl]
    refine r_invvX rfl rfl o rfl rfl rfl (by decide) (c_personAtF o q1 e1) ?_
    exact Or.inr ⟨_, _, rfl, by decide, rfl, rfl⟩
  | true =>
    rw [if_neg (by decide)]
    refine r_invvO rfl rfl o rfl rfl (by decide) (c_personAtT o q1 e1) ?_
    refine r_aload_0 rfl ?_
    refine r_iload_2 rfl ?_
    cases e2 : inF p 0 (m 3 - 1) with
    | false =>
      rw [if_pos rfl]
      refine r_invvX rfl rfl o rfl rfl rfl (by decide) (c_personAtF o q1 e2) ?_
      exact Or.inr ⟨_, _, rfl, by decide, rfl, rfl⟩
    | true =>
      rw [if_neg (by decide)]
      refine r_invvO rfl rfl o rfl rfl (by decide) (c_personAtT o q1 e2) ?_
      by_cases c1 : c = p
      · rw [if_pos (Or.inl c1)]
        refine r_iload_1 rfl ?_
        refine r_iload_2 rfl ?_
        refine r_iceqT rfl (c1) ?_
        refine r_push rfl ?_
        refine r_invX rfl rfl rfl rfl (by decide) (c_demandF rfl) ?_
        exact Or.inr ⟨_, _, rfl, by decide, rfl, rfl⟩
      · cases e3 : inF w 1 40 with
        | false =>
          rw [if_pos (Or.inr rfl)]
          refine r_iload_1 rfl ?_
          refine r_iload_2 rfl ?_
          refine r_iceqF rfl (c1) ?_
          refine r_iload_3 rfl ?_
          refine r_push rfl ?_
          refine r_push rfl ?_
          refine r_invP_3 rfl rfl (by decide) (c_in _ _ _) ?_
          refine r_ifeqT rfl (by rw [e3]; rfl) ?_
          refine r_push rfl ?_
          refine r_invX rfl rfl rfl rfl (by decide) (c_demandF rfl) ?_
          exact Or.inr ⟨_, _, rfl, by decide, rfl, rfl⟩
        | true =>
          rw [if_neg (fun z => z.elim c1 (fun z => absurd z (by decide)))]
          have f1 := e1
          have f2 := e2
          rw [v.pp.1] at f1 f2
          have hP := v.pp.2
          obtain ⟨i, hi6, rfl⟩ := inF_nI (by omega) f1
          obtain ⟨j, hj6, rfl⟩ := inF_nI (by omega) f2
          have hi9 : i < 6 := by omega
          have hj9 : j < 6 := by omega
          rw [nI_clamp (show i < 2 ^ 31 by omega), nI_clamp (show j < 2 ^ 31 by omega)]
          have hS := v.ss.2
          have e4 := v.ss.1
          by_cases A : m 4 = 10
          · rw [if_pos (Or.inl A)]
            refine r_iload_1 rfl ?_
            refine r_iload_2 rfl ?_
            refine r_iceqF rfl (c1) ?_
            refine r_iload_3 rfl ?_
            refine r_push rfl ?_
            refine r_push rfl ?_
            refine r_invP_3 rfl rfl (by decide) (c_in _ _ _) ?_
            refine r_ifeqF rfl (by rw [e3]; decide) ?_
            refine r_push rfl ?_
            refine r_goto rfl ?_
            refine r_invO rfl rfl rfl (by decide) (c_demandT (by decide)) ?_
            refine r_aload_0 rfl ?_
            refine r_getf rfl (by assumption) (by rfl) ?_
            refine r_getf rfl (by assumption) (by rfl) ?_
            refine r_push rfl ?_
            refine r_icgeT rfl (by rw [A]; decide) ?_
            refine r_push rfl ?_
            refine r_invX rfl rfl rfl rfl (by decide) (c_canF rfl) ?_
            exact Or.inr ⟨_, _, rfl, by decide, rfl, rfl⟩
          · have hs10 : nS m < 10 := by
              rcases Nat.lt_or_eq_of_le hS with z | z
              · exact z
              · rw [z] at e4; exact absurd e4 A
            by_cases B : m (33 + 6 * i) < w
            · rw [if_pos (Or.inr B)]
              refine r_iload_1 rfl ?_
              refine r_iload_2 rfl ?_
              refine r_iceqF rfl (c1) ?_
              refine r_iload_3 rfl ?_
              refine r_push rfl ?_
              refine r_push rfl ?_
              refine r_invP_3 rfl rfl (by decide) (c_in _ _ _) ?_
              refine r_ifeqF rfl (by rw [e3]; decide) ?_
              refine r_push rfl ?_
              refine r_goto rfl ?_
              refine r_invO rfl rfl rfl (by decide) (c_demandT (by decide)) ?_
              refine r_aload_0 rfl ?_
              refine r_getf rfl (by assumption) (by rfl) ?_
              refine r_getf rfl (by assumption) (by rfl) ?_
              refine r_push rfl ?_
              refine r_icgeF rfl (by rw [e4]; exact nI_lt hs10 (by decide)) ?_
              refine r_aload_0 rfl ?_
              refine r_getf rfl (by assumption) (by rfl) ?_
              refine r_getf rfl (by assumption) (by rfl) ?_
              refine r_iload_1 rfl ?_
              refine r_iald rfl (oP) (by rfl) (hi9) (by first | decide | omega) ?_
              rw [cl_in hi9]
              refine r_iload_3 rfl ?_
              refine r_icltT rfl (B) ?_
              refine r_push rfl ?_
              refine r_invX rfl rfl rfl rfl (by decide) (c_canF rfl) ?_
              exact Or.inr ⟨_, _, rfl, by decide, rfl, rfl⟩
            · rw [if_neg (fun z => z.elim A B)]
              refine r_iload_1 rfl ?_
              refine r_iload_2 rfl ?_
              refine r_iceqF rfl (c1) ?_
              refine r_iload_3 rfl ?_
              refine r_push rfl ?_
              refine r_push rfl ?_
              refine r_invP_3 rfl rfl (by decide) (c_in _ _ _) ?_
              refine r_ifeqF rfl (by rw [e3]; decide) ?_
              refine r_push rfl ?_
              refine r_goto rfl ?_
              refine r_invO rfl rfl rfl (by decide) (c_demandT (by decide)) ?_
              refine r_aload_0 rfl ?_
              refine r_getf rfl (by assumption) (by rfl) ?_
              refine r_getf rfl (by assumption) (by rfl) ?_
              refine r_push rfl ?_
              refine r_icgeF rfl (by rw [e4]; exact nI_lt hs10 (by decide)) ?_
              refine r_aload_0 rfl ?_
              refine r_getf rfl (by assumption) (by rfl) ?_
              refine r_getf rfl (by assumption) (by rfl) ?_
              refine r_iload_1 rfl ?_
              refine r_iald rfl (oP) (by rfl) (hi9) (by first | decide | omega) ?_
              rw [cl_in hi9]
              refine r_iload_3 rfl ?_
              refine r_icltF rfl (Int32.not_lt.mp B) ?_
              refine r_push rfl ?_
              refine r_goto rfl ?_
              refine r_invO rfl rfl rfl (by decide) (c_canT (by decide)) ?_
              refine r_aload_0 rfl ?_
              refine r_invvF rfl rfl o rfl rfl (by decide) (c_xRem Q gx sg hn wb lb) ?_
              rintro h1 ⟨a, K, W, F1⟩
              have K1 := K
              obtain ⟨k1, -, -, -, k5, -, k7, -⟩ := K1
              have g1 := wa_pu k1; have g0 := wa_o k1
              have k2 := k1.pu (p := i) (v := m (33 + 6 * i) - w) hi9
              have f2 := k1.hf k5 (i := 1) (x := .inl (0, 6, .inl (upd (cl 6 fun p => m (33 + 6 * p)) i (m (33 + 6 * i) - w)))) (by decide)
              have o2 := f2.k k7 (by unfold InW; omega)
              have g2 := wa_o k2
              refine r_aload_0 rfl ?_
              refine r_getf rfl (by assumption) (by rfl) ?_
              refine r_getf rfl (by assumption) (by rfl) ?_
              refine r_iload_1 rfl ?_
              refine r_dup2 rfl ?_
              refine r_iald rfl (g1) (by rfl) (hi9) (by first | decide | omega) ?_
              rw [cl_in hi9]
              refine r_iload_3 rfl ?_
              refine r_isub rfl ?_
              refine r_iast rfl (g1) (by rfl) (hi9) (by first | decide | omega) ?_
              refine r_aload_0 rfl ?_
              refine r_getf rfl (by assumption) (by rfl) ?_
              refine r_iload_2 rfl ?_
              refine r_iload_3 rfl ?_
              refine r_invvF rfl rfl (g2) rfl rfl (by decide) (c_gets k2 f2.w hj9 w) ?_
              rintro h3 ⟨k3, f3⟩
              have o3 := f3.k o2 (by unfold InW; omega)
              have g3 := wa_o k3
              have e41 : mvF m i j w 4 = nI (nS m) := by rw [mv_lo hi9 hj9 (by omega), e4]
              have k3 : WA h3 (x + 1) (mvF m i j w) b l := k3
              refine r_aload_0 rfl ?_
              refine r_getf rfl (by assumption) (by rfl) ?_
              refine r_iload_2 rfl ?_
              refine r_iload_1 rfl ?_
              refine r_iload_3 rfl ?_
              refine r_iload_2 rfl ?_
              refine r_invvE rfl rfl (g3) rfl rfl (by decide) (c_adds k3 f3.w hs10 e41 _ _ _ _) ?_
              rintro v4 h4 ⟨rfl, k4, f4⟩
              have o4 := f4.k o3 (by unfold InW; omega)
              have g4 := wa_o k4
              refine r_istore_4 rfl ?_
              refine r_aload_0 rfl ?_
              refine r_getf rfl (by assumption) (by rfl) ?_
              refine r_iload_4 rfl ?_
              refine r_push rfl ?_
              refine r_iload_3 rfl ?_
              refine r_invvF rfl rfl (g4) rfl rfl (by decide) (c_tells k4 f4.w _ _ _) ?_
              rintro h5 ⟨k5', f5⟩
              refine r_iload_4 rfl ?_
              refine r_iret rfl ?_
              have F2 : HF (InW (x + 1)) 0 0 h1 h5 := (HF.trans (HF.trans (HF.trans f2 f3) f4) f5).mono (fun _ z => z) (Nat.le_refl _) (Nat.le_refl _)
              have er : lendR m i j w = tlF (adF (mvF m i j w) (nI j) (nI i) w (nI j)) (nI (nS m)) 0 w := by unfold lendR; rw [e4]
              have eS : nS (adF (mvF m i j w) (nI j) (nI i) w (nI j)) = nS m + 1 := by unfold nS; rw [(ad_at e41 hs10).2.2.2.2.2.2]; exact nI_clamp (by omega)
              refine Or.inl ⟨_, _, rfl, rfl, by rw [e4], xw_fin gx sg K W F1 F2 (by rw [er]; exact k5') (lendR_ok v hi6 hj6 (isW e3) hs10) (b' := upd b (nS m) (nI j)) ?_ ?_ ?_ (fun k hk => ?_) (fun k hk => ?_)⟩
              · rw [er]; exact BY.tl (BY.ad (yb.mv hi9 hj9 hS) e41 hs10) (by omega)
              · rw [er, tl_lo (by decide) (by decide), ad_lo e41 hs10 (by omega) (by decide), mv_lo hi9 hj9 (by omega)]
              · rw [er, tl_lo (by decide) (by decide), ad_lo e41 hs10 (by omega) (by decide), mv_lo hi9 hj9 (by omega)]
              · rw [er, tl_hi hk, ad_lo e41 hs10 (by omega) (by omega), mv_lo hi9 hj9 (by omega)]
              · rw [er, tl_lo (by omega) (by omega), ad_lo e41 hs10 (by omega) (by omega)]; unfold mvF; rw [upd_ne (by omega), upd_ne (by omega)]
theorem c_xPay (q : HS G bs x (x + 1) S hi h m b l) (gx : bs ≤ x) (sg : SG bs x S h) (hn : x + 98 ≤ h.2.1) (wb : WB G bs x S h l m ws) (lb : LB m) (z : Int32) : Xa G 12 m_X1_pay [.ref x, .int z] bs x S hi h l ws m (payR m z.toNatClampNeg) (qPay m z) (k2 20 22) := by
  have Q := q
  obtain ⟨q1, v, yb, q4, q5, q6, o, s0, q8⟩ := q
  have o0 := wa_o q1; have oP := wa_pu q1; have oD := wa_de q1; have oS := wa_st q1; have oW := wa_we q1
  refine wc_in mt_X1_pay rfl (L := [.ref x, .int z, am_un, am_un]) rfl ?_
  refine r_aload_0 rfl ?_
  refine r_iload_1 rfl ?_
  unfold qPay
  cases e1 : inF z 0 (m 4 - 1) with
  | false =>
    rw [if_pos rfl]
    refine r_invvX rfl rfl o rfl rfl rfl (by decide) (c_stoneAtF o q1 e1) ?_
    exact Or.inr ⟨_, _, rfl, by decide, rfl, rfl⟩
  | true =>
    rw [if_neg (by decide)]
    refine r_invvO rfl rfl o rfl rfl (by decide) (c_stoneAtT o q1 e1) ?_
    rw [v.ss.1] at e1
    have hS := v.ss.2
    have hP := v.pp.2
    obtain ⟨i, hi6, rfl⟩ := inF_nI (by omega) e1
    have hi9 : i < 10 := by omega
    obtain ⟨⟨d, hd, ed⟩, ⟨c, hc, ec⟩, -⟩ := v.st i hi6
    have hd6 : d < 6 := by omega
    have hc6 : c < 6 := by omega
    rw [nI_clamp (show i < 2 ^ 31 by omega), ed, nI_clamp (show d < 2 ^ 31 by omega)]
    by_cases A : m (72 + 6 * i) = 2
    · rw [if_pos (Or.inl A)]
      refine r_aload_0 rfl ?_
      refine r_getf rfl (by assumption) (by rfl) ?_
      refine r_astore_2 rfl ?_
      refine r_aload_2 rfl ?_
      refine r_getf rfl (by assumption) (by rfl) ?_
      refine r_iload_1 rfl ?_
      refine r_iald rfl (oD) (by rfl) (hi9) (by first | decide | omega) ?_
      rw [cl_in hi9, ed]
      refine r_istore_3 rfl ?_
      refine r_aload_2 rfl ?_
      refine r_getf rfl (by assumption) (by rfl) ?_
      refine r_iload_1 rfl ?_
      refine r_iald rfl (oS) (by rfl) (hi9) (by first | decide | omega) ?_
      rw [cl_in hi9]
      refine r_push rfl ?_
      refine r_iceqT rfl (A) ?_
      refine r_push rfl ?_
      refine r_invX rfl rfl rfl rfl (by decide) (c_canF rfl) ?_
      exact Or.inr ⟨_, _, rfl, by decide, rfl, rfl⟩
    · by_cases B : m (33 + 6 * d) < m (71 + 6 * i)
      · rw [if_pos (Or.inr B)]
        refine r_aload_0 rfl ?_
        refine r_getf rfl (by assumption) (by rfl) ?_
        refine r_astore_2 rfl ?_
        refine r_aload_2 rfl ?_
        refine r_getf rfl (by assumption) (by rfl) ?_
        refine r_iload_1 rfl ?_
        refine r_iald rfl (oD) (by rfl) (hi9) (by first | decide | omega) ?_
        rw [cl_in hi9, ed]
        refine r_istore_3 rfl ?_
        refine r_aload_2 rfl ?_
        refine r_getf rfl (by assumption) (by rfl) ?_
        refine r_iload_1 rfl ?_
        refine r_iald rfl (oS) (by rfl) (hi9) (by first | decide | omega) ?_
        rw [cl_in hi9]
        refine r_push rfl ?_
        refine r_iceqF rfl (A) ?_
        refine r_aload_2 rfl ?_
        refine r_getf rfl (by assumption) (by rfl) ?_
        refine r_iload_3 rfl ?_
        refine r_iald rfl (oP) (by rfl) (hd6) (by first | decide | omega) ?_
        rw [cl_in hd6]
        refine r_aload_2 rfl ?_
        refine r_getf rfl (by assumption) (by rfl) ?_
        refine r_iload_1 rfl ?_
        refine r_iald rfl (oW) (by rfl) (hi9) (by first | decide | omega) ?_
        rw [cl_in hi9]
        refine r_icltT rfl (B) ?_
        refine r_push rfl ?_
        refine r_invX rfl rfl rfl rfl (by decide) (c_canF rfl) ?_
        exact Or.inr ⟨_, _, rfl, by decide, rfl, rfl⟩
      · rw [if_neg (fun z => z.elim A B)]
        refine r_aload_0 rfl ?_
        refine r_getf rfl (by assumption) (by rfl) ?_
        refine r_astore_2 rfl ?_
        refine r_aload_2 rfl ?_
        refine r_getf rfl (by assumption) (by rfl) ?_
        refine r_iload_1 rfl ?_
        refine r_iald rfl (oD) (by rfl) (hi9) (by first | decide | omega) ?_
        rw [cl_in hi9, ed]
        refine r_istore_3 rfl ?_
        refine r_aload_2 rfl ?_
        refine r_getf rfl (by assumption) (by rfl) ?_
        refine r_iload_1 rfl ?_
        refine r_iald rfl (oS) (by rfl) (hi9) (by first | decide | omega) ?_
        rw [cl_in hi9]
        refine r_push rfl ?_
        refine r_iceqF rfl (A) ?_
        refine r_aload_2 rfl ?_
        refine r_getf rfl (by assumption) (by rfl) ?_
        refine r_iload_3 rfl ?_
        refine r_iald rfl (oP) (by rfl) (hd6) (by first | decide | omega) ?_
        rw [cl_in hd6]
        refine r_aload_2 rfl ?_
        refine r_getf rfl (by assumption) (by rfl) ?_
        refine r_iload_1 rfl ?_
        refine r_iald rfl (oW) (by rfl) (hi9) (by first | decide | omega) ?_
        rw [cl_in hi9]
        refine r_icltF rfl (Int32.not_lt.mp B) ?_
        refine r_push rfl ?_
        refine r_goto rfl ?_
        refine r_invO rfl rfl rfl (by decide) (c_canT (by decide)) ?_
        refine r_aload_0 rfl ?_
        refine r_invvF rfl rfl o rfl rfl (by decide) (c_xRem Q gx sg hn wb lb) ?_
        rintro h1 ⟨a, K, W, F1⟩
        have K1 := K
        obtain ⟨k1, -, -, -, k5, -, k7, -⟩ := K1
        have g1 := wa_pu k1; have g0 := wa_o k1; have gW := wa_we k1
        have k2 := k1.pu (p := d) (v := m (33 + 6 * d) - m (71 + 6 * i)) hd6
        have f2 := k1.hf k5 (i := 1) (x := .inl (0, 6, .inl (upd (cl 6 fun p => m (33 + 6 * p)) d (m (33 + 6 * d) - m (71 + 6 * i))))) (by decide)
        have g2 := wa_o k2; have gL := wa_le k2; have gW2 := wa_we k2
        have er : payR m i = tlF (upd (mvF m d c (m (71 + 6 * i))) (72 + 6 * i) 2) (nI i) 1 (m (71 + 6 * i)) := by unfold payR; rw [ed, ec, nI_clamp (show d < 2 ^ 31 by omega), nI_clamp (show c < 2 ^ 31 by omega)]
        have u1 : upd m (33 + 6 * d) (m (33 + 6 * d) - m (71 + 6 * i)) (70 + 6 * i) = nI c := by rw [upd_ne (by omega), ec]
        have u2 : upd m (33 + 6 * d) (m (33 + 6 * d) - m (71 + 6 * i)) (71 + 6 * i) = m (71 + 6 * i) := by rw [upd_ne (by omega)]
        refine r_aload_2 rfl ?_
        refine r_getf rfl (by assumption) (by rfl) ?_
        refine r_iload_3 rfl ?_
        refine r_dup2 rfl ?_
        refine r_iald rfl (g1) (by rfl) (hd6) (by first | decide | omega) ?_
        rw [cl_in hd6]
        refine r_aload_2 rfl ?_
        refine r_getf rfl (by assumption) (by rfl) ?_
        refine r_iload_1 rfl ?_
        refine r_iald rfl (gW) (by rfl) (hi9) (by first | decide | omega) ?_
        rw [cl_in hi9]
        refine r_isub rfl ?_
        refine r_iast rfl (g1) (by rfl) (hd6) (by first | decide | omega) ?_
        refine r_aload_2 rfl ?_
        refine r_aload_2 rfl ?_
        refine r_getf rfl (by assumption) (by rfl) ?_
        refine r_iload_1 rfl ?_
        refine r_iald rfl (gL) (by rfl) (hi9) (by first | decide | omega) ?_
        rw [cl_in hi9, u1]
        refine r_aload_2 rfl ?_
        refine r_getf rfl (by assumption) (by rfl) ?_
        refine r_iload_1 rfl ?_
        refine r_iald rfl (gW2) (by rfl) (hi9) (by first | decide | omega) ?_
        rw [cl_in hi9, u2]
        refine r_invvF rfl rfl (g2) rfl rfl (by decide) (c_gets k2 f2.w hc6 _) ?_
        rintro h3 ⟨k3, f3⟩
        have k3 : WA h3 (x + 1) (mvF m d c (m (71 + 6 * i))) b l := k3
        have g3 := wa_o k3
        have gS := wa_st k3
        have k4 := k3.st (p := i) (v := 2) hi9
        have f4 := k3.hf f3.w (i := 12) (x := .inl (0, 10, .inl (upd (cl 10 fun p => mvF m d c (m (71 + 6 * i)) (72 + 6 * p)) i 2))) (by decide)
        have g4 := wa_o k4
        have gW4 := wa_we k4
        have u3 : upd (mvF m d c (m (71 + 6 * i))) (72 + 6 * i) 2 (71 + 6 * i) = m (71 + 6 * i) := by rw [upd_ne (by omega), mv_lo hd6 hc6 (by omega)]
        refine r_aload_2 rfl ?_
        refine r_getf rfl (by assumption) (by rfl) ?_
        refine r_iload_1 rfl ?_
        refine r_push rfl ?_
        refine r_iast rfl (gS) (by rfl) (hi9) (by first | decide | omega) ?_
        refine r_aload_2 rfl ?_
        refine r_iload_1 rfl ?_
        refine r_push rfl ?_
        refine r_aload_2 rfl ?_
        refine r_getf rfl (by assumption) (by rfl) ?_
        refine r_iload_1 rfl ?_
        refine r_iald rfl (gW4) (by rfl) (hi9) (by first | decide | omega) ?_
        rw [cl_in hi9, u3]
        refine r_invvF rfl rfl (g4) rfl rfl (by decide) (c_tells k4 f4.w _ _ _) ?_
        rintro h5 ⟨k5', f5⟩
        have k5' : WA h5 (x + 1) (payR m i) b l := by rw [er]; exact k5'
        have g5 := wa_o k5'
        have gP := wa_pu k5'
        refine r_aload_2 rfl ?_
        refine r_getf rfl (by assumption) (by rfl) ?_
        refine r_iload_3 rfl ?_
        refine r_iald rfl (gP) (by rfl) (hd6) (by first | decide | omega) ?_
        rw [cl_in hd6]
        refine r_iret rfl ?_
        have F2 : HF (InW (x + 1)) 0 0 h1 h5 := (HF.trans (HF.trans (HF.trans f2 f3) f4) f5).mono (fun _ z => z) (Nat.le_refl _) (Nat.le_refl _)
        refine Or.inl ⟨_, _, rfl, rfl, rfl, xw_fin gx sg K W F1 F2 k5' (payR_ok v hi6) (b' := b) ?_ ?_ ?_ (fun k hk => ?_) (fun k hk => ?_)⟩
        · have eS : nS (mvF m d c (m (71 + 6 * i))) = nS m := by unfold nS; rw [mv_lo hd6 hc6 (by omega)]
          rw [er]; exact BY.tl (BY.paid (yb.mv hd6 hc6 hS) (by omega)) (by unfold nS; rw [upd_ne (by omega)]; show nS _ ≤ 10; omega)
        · rw [er, tl_lo (by decide) (by decide), upd_ne (by omega), mv_lo hd6 hc6 (by omega)]
        · rw [er, tl_lo (by decide) (by decide), upd_ne (by omega), mv_lo hd6 hc6 (by omega)]
        · rw [er, tl_hi hk, upd_ne (by omega), mv_lo hd6 hc6 (by omega)]
        · rw [er, tl_lo (by omega) (by omega), upd_ne (by omega)]; unfold mvF; rw [upd_ne (by omega), upd_ne (by omega)]
end
