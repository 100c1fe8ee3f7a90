/-! THE VALLEY'S TEXT: the system reads a line -/
set_option maxRecDepth 100000
theorem am_sw_in (x : Int32) (d : Nat) : ∀ ks : List (Int32 × Nat), am_sw x d ks ∈ d :: ks.map Prod.snd
  | [] => List.mem_cons_self
  | (k, t) :: r => by
    rw [am_sw]
    split
    · exact List.mem_cons_of_mem _ List.mem_cons_self
    · rcases List.mem_cons.mp (am_sw_in x d r) with z | z
      · rw [z]; exact List.mem_cons_self
      · exact List.mem_cons_of_mem _ (List.mem_cons_of_mem _ z)
theorem LB.same {m m' : Nat → Int32} (q : LB m) (e6 : m' 6 = m 6) (e3 : m' 3 = m 3) (e : ∀ k, 33 ≤ k → m' k = m k) : LB m' := by
  have eP : nP m' = nP m := by unfold nP; rw [e3]
  exact ⟨by rw [e6]; exact q.1, fun r hr => by rw [e _ (by omega)]; exact q.2 r (by rw [← eP]; exact hr)⟩
section
variable {T f : Nat → Int32} {e len x bs : Nat} {at_ bg ft dp : Int32} {hi : Bool} {h h0 h2 : am_H} {G : am_G} {m b : Nat → Int32} {l : Value}
theorem VO.up {res : RD (Nat → Int32)} {a a' n n' c s : Nat} {h' : am_H} (p : VO T f x len e ft dp res m l a n h2 h') (g : HF (VP x) c s h h2) (ha : a' ≤ a) (hn : c + 10 * n ≤ 10 * n' ∧ s + 1600 * n ≤ 1600 * n') : VO T f x len e ft dp res m l a' n' h h' := by
  obtain ⟨m', a2, b', p1, p2, p3, p4, p5, p6, p7, p8⟩ := p
  exact ⟨m', a2, b', p1, p2, p3, p4, by omega, p6, p7, (HF.trans g p8).mono (fun _ z => z) hn.1 hn.2⟩
theorem VF.up {z c n n' c9 s9 : Nat} {h' : am_H} (p : VF f x len e ft z n h2 c h') (g : HF (VP x) c9 s9 h h2) (hn : c9 + 10 * n ≤ 10 * n' ∧ s9 + 1600 * n ≤ 1600 * n') : VF f x len e ft z n' h c h' := ⟨p.1, p.2.1, p.2.2.1, (HF.trans g p.2.2.2).mono (fun _ z => z) hn.1 hn.2⟩
theorem c_valLine (w : HW h) (og : OG G bs h) (hbs : bs ≤ x) (hx : h.1 x = some (.inr (0, xobj x hi))) (t : TX T f e) {a : Nat} (q : RS h (x + 46) f len e (nI a) bg ft dp) (ha : a ≤ e) (wa : WA h (x + 16) m b l) (v : VR m) (yb : BY b m) (lb : LB m) : Etn G 13 m_X1_valleyLine [.ref x, .ref (x + 16)] h (VO T f x len e ft dp (vlineF T e m a) m l (a + 5) 5 h) (fun c h' => ∃ z, vlineF T e m a = .inl z ∧ VF f x len e ft z 9 h c h') := by
  have gt := og.gt
  have hb := wb_le T ha
  have hsg := sk_ge T e a
  have h10 := v.ss.2
  have no : ∀ z, isR (x + 46) z → z < x + 16 ∨ x + 16 + 15 ≤ z := fun z y => by unfold isR at y; omega
  have up : ∀ {c s : Nat} {h1 h2 : am_H}, HF (isR (x + 46)) c s h1 h2 → HF (VP x) c s h1 h2 := fun f => f.mono (fun z y => Or.inl y) (Nat.le_refl _) (Nat.le_refl _)
  obtain ⟨v0, g0, -⟩ := og.s 3 w_person (by decide)
  obtain ⟨v1, g1, -⟩ := og.s 4 w_stone (by decide)
  obtain ⟨v2, g2, -⟩ := og.s 5 w_slope (by decide)
  obtain ⟨v3, g3, -⟩ := og.s 6 w_porch (by decide)
  obtain ⟨v4, g4, -⟩ := og.s 7 w_limit (by decide)
  obtain ⟨v5, g5, -⟩ := og.s 8 w_hour (by decide)
  refine wc_in mt_X1_valleyLine rfl (L := [.ref x, .ref (x + 16), am_un, am_un, am_un, am_un]) rfl ?_
  refine r_aload_0 rfl ?_
  refine r_getf rfl hx rfl ?_
  refine r_astore_2 rfl ?_
  refine r_aload_2 rfl ?_
  refine r_invvE rfl rfl q.1 rfl rfl (by decide) (c_word w t q ha) ?_
  rintro u1 h1 ⟨s, rfl, hs2, hS, q1, f1⟩
  refine r_astore_3 rfl ?_
  refine r_push rfl ?_
  refine r_istore_4 rfl ?_
  refine r_aload_3 rfl ?_
  obtain ⟨_, _, oS, -⟩ := id hS
  refine r_invvE rfl rfl oS rfl rfl (by decide) (c_hashCode f1.w hS) ?_
  rintro u2 h2 ⟨rfl, hSA, f2⟩
  have hxn := w _ _ hx
  have hrn := w _ _ q.1
  have hr2 := w _ _ q.2
  have h16 := w _ _ (wa 14 (by decide))
  have F2 : HF (isR (x + 46)) 10 1600 h h2 := (HF.transN w f1 f2 (fun z y => Or.inr (by omega))).mono (fun _ z => z) (by decide) (by decide)
  have hx2 := F2.k hx (fun z => by simp only [isR] at z; omega)
  have og2 := og.keep F2 (fun z y => by simp only [isR] at y; omega)
  have wa2 := wa.keep F2 no
  have q2 := q1.keep f2 (fun z => by omega) (fun z => by omega)
  obtain ⟨vc, _, _, _, _, _, vo, vc7, -⟩ := id hSA

  by_cases c0 : subF T (skF T e a) (wbF T e a - skF T e a) = w_person
  · have wd : wdF T e a w_person = true := decide_eq_true c0
    have wl := wd_len wd
    have hln : w_person.length = 6 := rfl
    have ev : vlineF T e m a = personF T e m (skF T e a) (wbF T e a) := by unfold vlineF; rw [if_pos wd]
    rw [ev]
    refine r_sw (nx := 76) rfl (by rw [c0]; decide +kernel) ?_
    refine r_aload_3 rfl ?_
    refine r_globR rfl g0 ?_
    refine r_invvP_1 rfl vo (by rcases vc7 with rfl | rfl <;> rfl) rfl (by decide) (c_equals hSA (gsa og2 (k := 3) (w := w_person) (by decide) g0).1) ?_
    rw [decide_eq_true c0]
    refine r_ifeqF rfl (by decide) ?_
    refine r_push rfl ?_
    refine r_istore_4 rfl ?_
    refine r_goto rfl ?_
    refine r_iload_4 rfl ?_
    refine r_sw (nx := 204) rfl (by decide) ?_
    refine r_aload_0 rfl ?_
    refine r_aload_1 rfl ?_
    refine r_invvS rfl rfl hx2 rfl rfl rfl (by decide) (c_aPerson F2.w og2 hbs hx2 t q2 hb wa2 v yb lb) ?_ ?_
    · rintro h3 p3
      refine r_vret rfl ?_
      exact Or.inl ⟨_, rfl, p3.up (up F2) (by omega) (by decide)⟩
    · rintro c h3 ⟨z, ez, p3⟩
      exact Or.inr ⟨_, _, rfl, z, ez, p3.up (up F2) (by decide)⟩
  · by_cases c1 : subF T (skF T e a) (wbF T e a - skF T e a) = w_stone
    · have wd : wdF T e a w_stone = true := decide_eq_true c1
      have wl := wd_len wd
      have hln : w_stone.length = 5 := rfl
      have ev : vlineF T e m a = stoneF T e m (skF T e a) (wbF T e a) := by unfold vlineF; rw [if_neg (show ¬ wdF T e a w_person = true from fun z => c0 (of_decide_eq_true z)), if_pos wd]
      rw [ev]
      refine r_sw (nx := 91) rfl (by rw [c1]; decide +kernel) ?_
      refine r_aload_3 rfl ?_
      refine r_globR rfl g1 ?_
      refine r_invvP_1 rfl vo (by rcases vc7 with rfl | rfl <;> rfl) rfl (by decide) (c_equals hSA (gsa og2 (k := 4) (w := w_stone) (by decide) g1).1) ?_
      rw [decide_eq_true c1]
      refine r_ifeqF rfl (by decide) ?_
      refine r_push rfl ?_
      refine r_istore_4 rfl ?_
      refine r_goto rfl ?_
      refine r_iload_4 rfl ?_
      refine r_sw (nx := 210) rfl (by decide) ?_
      refine r_aload_0 rfl ?_
      refine r_aload_1 rfl ?_
      refine r_invvS rfl rfl hx2 rfl rfl rfl (by decide) (c_aStone F2.w og2 hbs hx2 t q2 hb wa2 v yb lb) ?_ ?_
      · rintro h3 p3
        refine r_vret rfl ?_
        exact Or.inl ⟨_, rfl, p3.up (up F2) (by omega) (by decide)⟩
      · rintro c h3 ⟨z, ez, p3⟩
        exact Or.inr ⟨_, _, rfl, z, ez, p3.up (up F2) (by decide)⟩
    · by_cases c2 : subF T (skF T e a) (wbF T e a - skF T e a) = w_slope
      · have wd : wdF T e a w_slope = true := decide_eq_true c2
        have wl := wd_len wd
        have hln : w_slope.length = 5 := rfl
        have ev : vlineF T e m a = slopeF T e m (wbF T e a) := by unfold vlineF; rw [if_neg (show ¬ wdF T e a w_person = true from fun z => c0 (of_decide_eq_true z)), if_neg (show ¬ wdF T e a w_stone = true from fun z => c1 (of_decide_eq_true z)), if_pos wd]
        rw [ev]
        refine r_sw (nx := 106) rfl (by rw [c2]; decide +kernel) ?_
        refine r_aload_3 rfl ?_
        refine r_globR rfl g2 ?_
        refine r_invvP_1 rfl vo (by rcases vc7 with rfl | rfl <;> rfl) rfl (by decide) (c_equals hSA (gsa og2 (k := 5) (w := w_slope) (by decide) g2).1) ?_
        rw [decide_eq_true c2]
        refine r_ifeqF rfl (by decide) ?_
        refine r_push rfl ?_
        refine r_istore_4 rfl ?_
        refine r_goto rfl ?_
        refine r_iload_4 rfl ?_
        refine r_sw (nx := 216) rfl (by decide) ?_
        refine r_aload_0 rfl ?_
        refine r_invvT rfl rfl hx2 rfl rfl rfl (by decide) (c_placeTold gt F2.w hx2 t q2 hb) ?_ ?_
        · rintro v3 h3 ⟨p, a3, en3, rfl, ha3, q3, f3⟩
          have hl3 := num_lt en3
          obtain ⟨i, hi, rfl⟩ := inF_nI (n := 12) (by decide) (num_in en3)
          have wa3 := wa2.keep f3 no
          refine r_istore_5 rfl ?_
          refine r_aload_1 rfl ?_
          refine r_getf rfl (wa_o wa3) rfl ?_
          refine r_iload_5 rfl ?_
          refine r_aload_2 rfl ?_
          refine r_push rfl ?_
          refine r_push rfl ?_
          refine r_invvT rfl rfl q3.1 rfl rfl rfl (by decide) (c_number gt f3.w t q3 ha3) ?_ ?_
          · rintro v4 h4 ⟨n, a4, en4, rfl, ha4, q4, f4⟩
            have hl4 := num_lt en4
            have ib4 : isB n 4 := by obtain ⟨j, hj, rfl⟩ := inF_nI (n := 4) (by decide) (num_in en4); exact ⟨j, hj, rfl⟩
            have wa4 := wa3.keep f4 no
            have G4 := wa4.hf f4.w (i := 8) (x := .inl (0, 12, .inl (upd (cl 12 fun p => m (9 + p)) i n))) (by decide)
            refine r_iast rfl (wa_sl wa4) rfl hi (by decide) ?_
            refine r_vret rfl ?_
            refine Or.inl ⟨_, rfl, _, a4, b, by unfold slopeF; rw [en3]; simp only [rB]; rw [en4, nI_clamp (by omega)], wa4.sl hi, ⟨v.u (Or.inr (Or.inl ⟨by omega, by omega, ib4⟩)), ?_, upd_ne (by omega), upd_ne (by omega), upd_ne (by omega), fun k hk => upd_ne (by omega)⟩, yb.u h10 (by omega), by omega, ha4, ⟨_, q4.keep G4 (fun z => by unfold InW at z; omega) (fun z => by unfold InW at z; omega)⟩, (HF.trans (HF.trans (HF.trans (up F2) (up f3)) (up f4)) (G4.mono (fun z y => Or.inr y) (Nat.le_refl _) (Nat.le_refl _))).mono (fun _ z => z) (by decide) (by decide)⟩
            refine lb.same (upd_ne (by omega)) (upd_ne (by omega)) (fun k hk => upd_ne (by omega))
          · rintro c h4 ⟨en4, p4⟩
            exact Or.inr ⟨_, _, rfl, _, by unfold slopeF; rw [en3]; simp only [rB]; rw [en4], p4.vf wa3 (HF.trans (up F2) (up f3)) (by decide) (by decide)⟩
        · rintro c h3 ⟨en3, p3⟩
          exact Or.inr ⟨_, _, rfl, _, by unfold slopeF; rw [en3]; rfl, p3.vf wa2 (up F2) (by decide) (by decide)⟩
      · by_cases c3 : subF T (skF T e a) (wbF T e a - skF T e a) = w_porch
        · have wd : wdF T e a w_porch = true := decide_eq_true c3
          have wl := wd_len wd
          have hln : w_porch.length = 5 := rfl
          have ev : vlineF T e m a = porchF T e m (wbF T e a) := by unfold vlineF; rw [if_neg (show ¬ wdF T e a w_person = true from fun z => c0 (of_decide_eq_true z)), if_neg (show ¬ wdF T e a w_stone = true from fun z => c1 (of_decide_eq_true z)), if_neg (show ¬ wdF T e a w_slope = true from fun z => c2 (of_decide_eq_true z)), if_pos wd]
          rw [ev]
          refine r_sw (nx := 121) rfl (by rw [c3]; decide +kernel) ?_
          refine r_aload_3 rfl ?_
          refine r_globR rfl g3 ?_
          refine r_invvP_1 rfl vo (by rcases vc7 with rfl | rfl <;> rfl) rfl (by decide) (c_equals hSA (gsa og2 (k := 6) (w := w_porch) (by decide) g3).1) ?_
          rw [decide_eq_true c3]
          refine r_ifeqF rfl (by decide) ?_
          refine r_push rfl ?_
          refine r_istore_4 rfl ?_
          refine r_goto rfl ?_
          refine r_iload_4 rfl ?_
          refine r_sw (nx := 236) rfl (by decide) ?_
          refine r_aload_1 rfl ?_
          refine r_getf rfl (wa_o wa2) rfl ?_
          refine r_aload_0 rfl ?_
          refine r_invvT rfl rfl hx2 rfl rfl rfl (by decide) (c_placeTold gt F2.w hx2 t q2 hb) ?_ ?_
          · rintro v3 h3 ⟨p, a3, en3, rfl, ha3, q3, f3⟩
            have hl3 := num_lt en3
            obtain ⟨i, hi, rfl⟩ := inF_nI (n := 12) (by decide) (num_in en3)
            have wa3 := wa2.keep f3 no
            have G4 := wa3.hf f3.w (i := 7) (x := .inl (1, 12, .inl (upd (cl 12 fun p => m (21 + p)) i 1))) (by decide)
            refine r_push rfl ?_
            refine r_zast rfl (wa_po wa3) rfl hi (by decide) ?_
            refine r_vret rfl ?_
            refine Or.inl ⟨_, rfl, _, a3, b, by unfold porchF; rw [en3]; show (Sum.inr (upd m (21 + (nI i).toNatClampNeg) 1, a3) : RD (Nat → Int32)) = _; rw [nI_clamp (by omega)]; rfl, wa3.po hi, ⟨v.u (Or.inr (Or.inr (Or.inl ⟨by omega, by omega, ⟨1, by decide, rfl⟩⟩))), ?_, upd_ne (by omega), upd_ne (by omega), upd_ne (by omega), fun k hk => upd_ne (by omega)⟩, yb.u h10 (by omega), by omega, ha3, ⟨_, q3.keep G4 (fun z => by unfold InW at z; omega) (fun z => by unfold InW at z; omega)⟩, (HF.trans (HF.trans (up F2) (up f3)) (G4.mono (fun z y => Or.inr y) (Nat.le_refl _) (Nat.le_refl _))).mono (fun _ z => z) (by decide) (by decide)⟩
            refine lb.same (upd_ne (by omega)) (upd_ne (by omega)) (fun k hk => upd_ne (by omega))
          · rintro c h3 ⟨en3, p3⟩
            exact Or.inr ⟨_, _, rfl, _, by unfold porchF; rw [en3]; rfl, p3.vf wa2 (up F2) (by decide) (by decide)⟩
        · by_cases c4 : subF T (skF T e a) (wbF T e a - skF T e a) = w_limit
          · have wd : wdF T e a w_limit = true := decide_eq_true c4
            have wl := wd_len wd
            have hln : w_limit.length = 5 := rfl
            have ev : vlineF T e m a = setF T e m 6 1 99 (wbF T e a) := by unfold vlineF; rw [if_neg (show ¬ wdF T e a w_person = true from fun z => c0 (of_decide_eq_true z)), if_neg (show ¬ wdF T e a w_stone = true from fun z => c1 (of_decide_eq_true z)), if_neg (show ¬ wdF T e a w_slope = true from fun z => c2 (of_decide_eq_true z)), if_neg (show ¬ wdF T e a w_porch = true from fun z => c3 (of_decide_eq_true z)), if_pos wd]
            rw [ev]
            refine r_sw (nx := 136) rfl (by rw [c4]; decide +kernel) ?_
            refine r_aload_3 rfl ?_
            refine r_globR rfl g4 ?_
            refine r_invvP_1 rfl vo (by rcases vc7 with rfl | rfl <;> rfl) rfl (by decide) (c_equals hSA (gsa og2 (k := 7) (w := w_limit) (by decide) g4).1) ?_
            rw [decide_eq_true c4]
            refine r_ifeqF rfl (by decide) ?_
            refine r_push rfl ?_
            refine r_istore_4 rfl ?_
            refine r_goto rfl ?_
            refine r_iload_4 rfl ?_
            refine r_sw (nx := 247) rfl (by decide) ?_
            refine r_aload_1 rfl ?_
            refine r_aload_2 rfl ?_
            refine r_push rfl ?_
            refine r_push rfl ?_
            refine r_invvT rfl rfl q2.1 rfl rfl rfl (by decide) (c_number gt F2.w t q2 hb) ?_ ?_
            · rintro v3 h3 ⟨n, a3, en3, rfl, ha3, q3, f3⟩
              have hl3 := num_lt en3
              have wa3 := wa2.keep f3 no
              have G4 := wa3.hf f3.w (i := 0) (x := .inr (1, wobj (x + 16) (upd m 6 n) l)) (by decide)
              refine r_puti rfl (wa_o wa3) rfl ?_
              rw [wo_3]
              refine r_vret rfl ?_
              refine Or.inl ⟨_, rfl, _, a3, b, by unfold setF; rw [en3]; rfl, wa3.ob (k := 6) (by decide), ⟨v.u (by omega), ?_, upd_ne (by omega), upd_ne (by omega), upd_ne (by omega), fun k hk => upd_ne (by omega)⟩, yb.u h10 (by omega), by omega, ha3, ⟨_, q3.keep G4 (fun z => by unfold InW at z; omega) (fun z => by unfold InW at z; omega)⟩, (HF.trans (HF.trans (up F2) (up f3)) (G4.mono (fun z y => Or.inr y) (Nat.le_refl _) (Nat.le_refl _))).mono (fun _ z => z) (by decide) (by decide)⟩
              exact ⟨by rw [upd_eq]; exact in_pos (num_in en3) (by decide), fun r hr => by have := lb.2 r (by rw [← show nP (upd m 6 n) = nP m from by unfold nP; rw [upd_ne (by omega)]]; exact hr); rw [upd_ne (by omega)]; exact this⟩
            · rintro c h3 ⟨en3, p3⟩
              exact Or.inr ⟨_, _, rfl, _, by unfold setF; rw [en3]; rfl, p3.vf wa2 (up F2) (by decide) (by decide)⟩
          · by_cases c5 : subF T (skF T e a) (wbF T e a - skF T e a) = w_hour
            · have wd : wdF T e a w_hour = true := decide_eq_true c5
              have wl := wd_len wd
              have hln : w_hour.length = 4 := rfl
              have ev : vlineF T e m a = setF T e m 5 0 999 (wbF T e a) := by unfold vlineF; rw [if_neg (show ¬ wdF T e a w_person = true from fun z => c0 (of_decide_eq_true z)), if_neg (show ¬ wdF T e a w_stone = true from fun z => c1 (of_decide_eq_true z)), if_neg (show ¬ wdF T e a w_slope = true from fun z => c2 (of_decide_eq_true z)), if_neg (show ¬ wdF T e a w_porch = true from fun z => c3 (of_decide_eq_true z)), if_neg (show ¬ wdF T e a w_limit = true from fun z => c4 (of_decide_eq_true z)), if_pos wd]
              rw [ev]
              refine r_sw (nx := 151) rfl (by rw [c5]; decide +kernel) ?_
              refine r_aload_3 rfl ?_
              refine r_globR rfl g5 ?_
              refine r_invvP_1 rfl vo (by rcases vc7 with rfl | rfl <;> rfl) rfl (by decide) (c_equals hSA (gsa og2 (k := 8) (w := w_hour) (by decide) g5).1) ?_
              rw [decide_eq_true c5]
              refine r_ifeqF rfl (by decide) ?_
              refine r_push rfl ?_
              refine r_istore_4 rfl ?_
              refine r_iload_4 rfl ?_
              refine r_sw (nx := 259) rfl (by decide) ?_
              refine r_aload_1 rfl ?_
              refine r_aload_2 rfl ?_
              refine r_push rfl ?_
              refine r_push rfl ?_
              refine r_invvT rfl rfl q2.1 rfl rfl rfl (by decide) (c_number gt F2.w t q2 hb) ?_ ?_
              · rintro v3 h3 ⟨n, a3, en3, rfl, ha3, q3, f3⟩
                have hl3 := num_lt en3
                have wa3 := wa2.keep f3 no
                have G4 := wa3.hf f3.w (i := 0) (x := .inr (1, wobj (x + 16) (upd m 5 n) l)) (by decide)
                refine r_puti rfl (wa_o wa3) rfl ?_
                rw [wo_4]
                refine r_vret rfl ?_
                refine Or.inl ⟨_, rfl, _, a3, b, by unfold setF; rw [en3]; rfl, wa3.ob (k := 5) (by decide), ⟨v.u (by omega), ?_, upd_ne (by omega), upd_ne (by omega), upd_ne (by omega), fun k hk => upd_ne (by omega)⟩, yb.u h10 (by omega), by omega, ha3, ⟨_, q3.keep G4 (fun z => by unfold InW at z; omega) (fun z => by unfold InW at z; omega)⟩, (HF.trans (HF.trans (up F2) (up f3)) (G4.mono (fun z y => Or.inr y) (Nat.le_refl _) (Nat.le_refl _))).mono (fun _ z => z) (by decide) (by decide)⟩
                exact lb.same (upd_ne (by omega)) (upd_ne (by omega)) (fun k hk => upd_ne (by omega))
              · rintro c h3 ⟨en3, p3⟩
                exact Or.inr ⟨_, _, rfl, _, by unfold setF; rw [en3]; rfl, p3.vf wa2 (up F2) (by decide) (by decide)⟩
            · have ev : vlineF T e m a = .inl (skF T e a) := by unfold vlineF; rw [if_neg (show ¬ wdF T e a w_person = true from fun z => c0 (of_decide_eq_true z)), if_neg (show ¬ wdF T e a w_stone = true from fun z => c1 (of_decide_eq_true z)), if_neg (show ¬ wdF T e a w_slope = true from fun z => c2 (of_decide_eq_true z)), if_neg (show ¬ wdF T e a w_porch = true from fun z => c3 (of_decide_eq_true z)), if_neg (show ¬ wdF T e a w_limit = true from fun z => c4 (of_decide_eq_true z)), if_neg (show ¬ wdF T e a w_hour = true from fun z => c5 (of_decide_eq_true z))]
              rw [ev]
              have last : Wp G 13 mt_X1_valleyLine 163 [.ref x, .ref (x + 16), .ref (x + 46), .ref s, .int (-1), am_un] [] h2 (fun R => (∃ h', R = .inl (none, h') ∧ VO T f x len e ft dp (.inl (skF T e a)) m l (a + 5) 5 h h') ∨ (∃ c h', R = .inr (c, h') ∧ ∃ z, (.inl (skF T e a) : RD (Nat → Int32)) = .inl z ∧ VF f x len e ft z 9 h c h')) := by
                refine r_iload_4 rfl ?_
                refine r_sw (nx := 272) rfl (by decide) ?_
                refine r_aload_2 rfl ?_
                refine r_invvE rfl rfl q2.1 rfl rfl (by decide) (c_wrong (P := fun _ => False) gt F2.w) ?_
                rintro v4 h4 ⟨rfl, ⟨fs, o4⟩, f4⟩
                refine r_athrow rfl o4 rfl rfl ?_
                exact Or.inr ⟨_, _, rfl, _, rfl, rfl, ⟨_, _, q2.keep f4 (fun z => z) (fun z => z)⟩, ⟨_, _, _, wa2.keep f4 (fun a z => z.elim)⟩, (HF.trans (up F2) (f4.mono (fun _ z => z.elim) (Nat.le_refl _) (Nat.le_refl _))).mono (fun _ z => z) (by decide) (by decide)⟩
              obtain ⟨nx, enx⟩ : ∃ nx, am_sw (hsW (subF T (skF T e a) (wbF T e a - skF T e a))) 163 [(-991716523, 76), (3208676, 151), (102976443, 136), (106853880, 121), (109532587, 106), (109770853, 91)] = nx := ⟨_, rfl⟩
              have hnx : nx = 163 ∨ nx = 76 ∨ nx = 151 ∨ nx = 136 ∨ nx = 121 ∨ nx = 106 ∨ nx = 91 := by
                have z := am_sw_in (hsW (subF T (skF T e a) (wbF T e a - skF T e a))) 163 [(-991716523, 76), (3208676, 151), (102976443, 136), (106853880, 121), (109532587, 106), (109770853, 91)]
                rw [enx] at z
                simpa using z
              refine r_sw (nx := nx) rfl enx ?_
              rcases hnx with rfl | rfl | rfl | rfl | rfl | rfl | rfl
              · exact last
              · refine r_aload_3 rfl ?_
                refine r_globR rfl g0 ?_
                refine r_invvP_1 rfl vo (by rcases vc7 with rfl | rfl <;> rfl) rfl (by decide) (c_equals hSA (gsa og2 (k := 3) (w := w_person) (by decide) g0).1) ?_
                rw [decide_eq_false c0]
                refine r_ifeqT rfl rfl ?_
                exact last
              · refine r_aload_3 rfl ?_
                refine r_globR rfl g5 ?_
                refine r_invvP_1 rfl vo (by rcases vc7 with rfl | rfl <;> rfl) rfl (by decide) (c_equals hSA (gsa og2 (k := 8) (w := w_hour) (by decide) g5).1) ?_
                rw [decide_eq_false c5]
                refine r_ifeqT rfl rfl ?_
                exact last
              · refine r_aload_3 rfl ?_
                refine r_globR rfl g4 ?_
                refine r_invvP_1 rfl vo (by rcases vc7 with rfl | rfl <;> rfl) rfl (by decide) (c_equals hSA (gsa og2 (k := 7) (w := w_limit) (by decide) g4).1) ?_
                rw [decide_eq_false c4]
                refine r_ifeqT rfl rfl ?_
                exact last
              · refine r_aload_3 rfl ?_
                refine r_globR rfl g3 ?_
                refine r_invvP_1 rfl vo (by rcases vc7 with rfl | rfl <;> rfl) rfl (by decide) (c_equals hSA (gsa og2 (k := 6) (w := w_porch) (by decide) g3).1) ?_
                rw [decide_eq_false c3]
                refine r_ifeqT rfl rfl ?_
                exact last
              · refine r_aload_3 rfl ?_
                refine r_globR rfl g2 ?_
                refine r_invvP_1 rfl vo (by rcases vc7 with rfl | rfl <;> rfl) rfl (by decide) (c_equals hSA (gsa og2 (k := 5) (w := w_slope) (by decide) g2).1) ?_
                rw [decide_eq_false c2]
                refine r_ifeqT rfl rfl ?_
                exact last
              · refine r_aload_3 rfl ?_
                refine r_globR rfl g1 ?_
                refine r_invvP_1 rfl vo (by rcases vc7 with rfl | rfl <;> rfl) rfl (by decide) (c_equals hSA (gsa og2 (k := 4) (w := w_stone) (by decide) g1).1) ?_
                rw [decide_eq_false c1]
                refine r_ifeqT rfl rfl ?_
                exact last
end

