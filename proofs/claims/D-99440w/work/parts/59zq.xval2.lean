/-! THE VALLEY'S TEXT: the system reads a person -/
set_option maxRecDepth 100000
/-- a line's part that was read into the draft -/
def VO (T f : Nat → Int32) (x len e : Nat) (ft dp : Int32) (res : RD (Nat → Int32)) (m : Nat → Int32) (l : Value) (a n : Nat) (h0 : am_H) : am_H → Prop := fun h' => ∃ m' a' b', res = .inr (m', a') ∧ WA h' (x + 16) m' b' l ∧ RO m m' ∧ BY b' m' ∧ a ≤ a' ∧ a' ≤ e ∧ (∃ bg, RS h' (x + 46) f len e (nI a') bg ft dp) ∧ HC (VP x) n h0 h'
section
variable {T f : Nat → Int32} {e len x bs : Nat} {at_ bg ft dp : Int32} {hi : Bool} {h h0 : am_H} {G : am_G} {m b : Nat → Int32} {l : Value}
theorem c_aPerson (w : HW h) (og : OG G bs h) (hbs : bs ≤ x) (hx : h.1 x = some (.inr (0, xobj x hi))) (t : TX T f e) {a bb : Nat} (q : RS h (x + 46) f len e (nI a) (nI bb) ft dp) (ha : a ≤ e) (wa : WA h (x + 16) m b l) (v : VR m) (yb : BY b m) (lb : LB m) : Etn G 12 m_X1_aPerson [.ref x, .ref (x + 16)] h (VO T f x len e ft dp (personF T e m bb a) m l (a + 9) 3 h) (fun c h' => ∃ z, personF T e m bb a = .inl z ∧ VF f x len e ft z 6 h c h') := by
  have gt := og.gt
  have e3 := v.pp.1
  have hP := v.pp.2
  have o0 := wa_o wa
  refine wc_in mt_X1_aPerson rfl (L := [.ref x, .ref (x + 16), am_un, am_un]) rfl ?_
  by_cases c6 : m 3 = 6
  · have eF : personF T e m bb a = .inl bb := by unfold personF; rw [if_pos c6]
    rw [eF]
    refine r_aload_0 rfl ?_
    refine r_getf rfl (by assumption) (by rfl) ?_
    refine r_astore_2 rfl ?_
    refine r_aload_1 rfl ?_
    refine r_getf rfl (by assumption) (by rfl) ?_
    refine r_istore_3 rfl ?_
    refine r_iload_3 rfl ?_
    refine r_push rfl ?_
    refine r_icneF rfl (c6) ?_
    refine r_aload_2 rfl ?_
    refine r_invvE rfl rfl q.1 rfl rfl (by decide) (c_wrong (P := fun _ => False) gt w) ?_
    rintro v ha3 ⟨rfl, ⟨fs, o3⟩, f3⟩
    refine r_athrow rfl o3 rfl rfl ?_
    exact Or.inr ⟨_, _, rfl, _, rfl, rfl, ⟨_, _, q.keep f3 (fun z => z) (fun z => z)⟩, ⟨_, _, _, wa.keep f3 (fun a z => z.elim)⟩, f3.mono (fun _ z => z.elim) (by decide) (by decide)⟩
  · have hp6 : nP m < 6 := by
      rcases Nat.lt_or_eq_of_le hP with z | z
      · exact z
      · rw [z] at e3; exact absurd e3 c6
    have eF : personF T e m bb a = rB (numF T e 0 999 a) fun pu a => rB (afterF T e w_back 1 60 a) fun bk a => rB (afterF T e w_at 0 11 a) fun wh a => rB (goalF T e wh a) fun gl a => .inr (pm m (m 3) bk wh gl pu, a) := by unfold personF; rw [if_neg c6]
    obtain ⟨vB, gB, -⟩ := og.s 9 w_back (by decide)
    obtain ⟨vA, gA, -⟩ := og.s 10 w_at (by decide)
    obtain ⟨vG, gG, -⟩ := og.s 11 w_goal (by decide)
    refine r_aload_0 rfl ?_
    refine r_getf rfl (by assumption) (by rfl) ?_
    refine r_astore_2 rfl ?_
    refine r_aload_1 rfl ?_
    refine r_getf rfl (by assumption) (by rfl) ?_
    rw [e3]
    refine r_istore_3 rfl ?_
    refine r_iload_3 rfl ?_
    refine r_push rfl ?_
    refine r_icneT rfl (by rw [← e3]; exact c6) ?_
    refine r_aload_1 rfl ?_
    refine r_getf rfl (by assumption) (by rfl) ?_
    refine r_iload_3 rfl ?_
    refine r_aload_2 rfl ?_
    refine r_push rfl ?_
    refine r_push rfl ?_
    refine r_invvT rfl rfl q.1 rfl rfl rfl (by decide) (c_number gt w t q ha) ?_ ?_
    · rintro v1 h1 ⟨pu, a1, en1, rfl, ha1, q1, f1⟩
      have hl1 := num_lt en1
      have hx1 := f1.k hx (fun z => by simp only [isR] at z; omega)
      have og1 := og.keep f1 (fun z y => by simp only [isR] at y; omega)
      have wa1 := wa.keep f1 (fun z y => by simp only [isR] at y; omega)
      have k1 := wa1.pu (p := nP m) (v := pu) hp6
      have F1 : HF (VP x) 0 0 h (am_set h1 (x + 16 + 1) (.inl (0, 6, .inl (upd (cl 6 fun p => m (33 + 6 * p)) (nP m) pu)))) := (HF.trans (f1.mono (fun z y => Or.inl y) (Nat.le_refl _) (Nat.le_refl _)) ((wa1.hf f1.w (i := 1) (by decide)).mono (fun z y => Or.inr y) (Nat.le_refl _) (Nat.le_refl _))).mono (fun _ z => z) (by decide) (by decide)
      have nd : ∀ z, InW (x + 16) z → z ≠ x ∧ ¬ isR (x + 46) z ∧ z ≠ x + 46 + 1 ∧ bs ≤ z := fun z y => by unfold InW at y; unfold isR; omega
      have G1 := wa1.hf f1.w (i := 1) (x := .inl (0, 6, .inl (upd (cl 6 fun p => m (33 + 6 * p)) (nP m) pu))) (by decide)
      have hx1' := G1.k hx1 (fun z => (nd _ z).1 rfl)
      have og1' := og1.keep G1 (fun z y => (nd z y).2.2.2)
      have q1' := q1.keep G1 (fun z => (nd _ z).2.1 rfl) (fun z => (nd _ z).2.2.1 rfl)
      refine r_iast rfl (wa_pu wa1) rfl hp6 (by decide) ?_
      refine r_aload_1 rfl ?_
      refine r_getf rfl (wa_o k1) rfl ?_
      refine r_iload_3 rfl ?_
      refine r_aload_0 rfl ?_
      refine r_globR rfl gB ?_
      refine r_push rfl ?_
      refine r_push rfl ?_
      refine r_invvT rfl rfl hx1' rfl rfl rfl (by decide) (c_after G1.w og1' hbs hx1' t q1' ha1 (ws := w_back) (by decide) gB) ?_ ?_
      · rintro v2 h2 ⟨bk, a2, en2, rfl, hl2, ha2, ib2, ⟨bg2, q2, -⟩, f2⟩
        have hx2 := f2.k hx1' (fun z => by simp only [isR] at z; omega)
        have og2 := og1'.keep f2 (fun z y => by simp only [isR] at y; omega)
        have wa2 := k1.keep f2 (fun z y => by simp only [isR] at y; omega)
        have k2 := wa2.ba (p := nP m) (v := bk) hp6
        have G2 := wa2.hf f2.w (i := 2) (x := .inl (0, 6, .inl (upd (cl 6 fun p => upd m (33 + 6 * nP m) pu (34 + 6 * p)) (nP m) bk))) (by decide)
        have F2 := HF.trans (HF.trans F1 (f2.mono (fun z y => Or.inl y) (Nat.le_refl _) (Nat.le_refl _))) (G2.mono (fun z y => Or.inr y) (Nat.le_refl _) (Nat.le_refl _))
        have hx2' := G2.k hx2 (fun z => (nd _ z).1 rfl)
        have og2' := og2.keep G2 (fun z y => (nd z y).2.2.2)
        have q2' := q2.keep G2 (fun z => (nd _ z).2.1 rfl) (fun z => (nd _ z).2.2.1 rfl)
        refine r_iast rfl (wa_ba wa2) rfl hp6 (by decide) ?_
        refine r_aload_1 rfl ?_
        refine r_getf rfl (wa_o k2) rfl ?_
        refine r_iload_3 rfl ?_
        refine r_aload_0 rfl ?_
        refine r_globR rfl gA ?_
        refine r_push rfl ?_
        refine r_push rfl ?_
        refine r_invvT rfl rfl hx2' rfl rfl rfl (by decide) (c_after G2.w og2' hbs hx2' t q2' ha2 (ws := w_at) (by decide) gA) ?_ ?_
        · rintro v3 h3 ⟨wh, a3, en3, rfl, hl3, ha3, ib3, ⟨bg3, q3, -⟩, f3⟩
          have hx3 := f3.k hx2' (fun z => by simp only [isR] at z; omega)
          have og3 := og2'.keep f3 (fun z y => by simp only [isR] at y; omega)
          have wa3 := k2.keep f3 (fun z y => by simp only [isR] at y; omega)
          have k3 := wa3.at3 (p := nP m) (v := wh) hp6
          have G3 := wa3.hf f3.w (i := 3) (x := .inl (0, 6, .inl (upd (cl 6 fun p => upd (upd m (33 + 6 * nP m) pu) (34 + 6 * nP m) bk (35 + 6 * p)) (nP m) wh))) (by decide)
          have F3 := HF.trans (HF.trans F2 (f3.mono (fun z y => Or.inl y) (Nat.le_refl _) (Nat.le_refl _))) (G3.mono (fun z y => Or.inr y) (Nat.le_refl _) (Nat.le_refl _))
          have hx3' := G3.k hx3 (fun z => (nd _ z).1 rfl)
          have og3' := og3.keep G3 (fun z y => (nd z y).2.2.2)
          have q3' := q3.keep G3 (fun z => (nd _ z).2.1 rfl) (fun z => (nd _ z).2.2.1 rfl)
          obtain ⟨sG, ltG⟩ := gsa og3' (k := 11) (w := w_goal) (by decide) gG
          have fin : ∀ (gl : Int32) (a4 : Nat) (h4 : am_H), goalF T e wh a3 = .inr (gl, a4) → inF gl 0 11 = true → a3 ≤ a4 → a4 ≤ e → HF (isR (x + 46)) 10 1600 (am_set h3 (x + 16 + 3) (.inl (0, 6, .inl (upd (cl 6 fun p => upd (upd m (33 + 6 * nP m) pu) (34 + 6 * nP m) bk (35 + 6 * p)) (nP m) wh)))) h4 → (∃ bg, RS h4 (x + 46) f len e (nI a4) bg ft dp) → Wp G 12 mt_X1_aPerson 92 [.ref x, .ref (x + 16), .ref (x + 46), .int (nI (nP m))] [.int gl, .int (nI (nP m)), .ref (x + 16 + 4)] h4 (fun R => (∃ h', R = .inl (none, h') ∧ VO T f x len e ft dp (personF T e m bb a) m l (a + 9) 3 h h') ∨ (∃ c h', R = .inr (c, h') ∧ ∃ z, personF T e m bb a = .inl z ∧ VF f x len e ft z 6 h c h')) := by
            intro gl a4 h4 eg ig h34 h4e f4 hq4
            obtain ⟨bg4, q4⟩ := hq4
            have wa4 := k3.keep f4 (fun z y => by simp only [isR] at y; omega)
            have k4 := wa4.go (p := nP m) (v := gl) hp6
            have G4 := wa4.hf f4.w (i := 4) (x := .inl (0, 6, .inl (upd (cl 6 fun p => upd (upd (upd m (33 + 6 * nP m) pu) (34 + 6 * nP m) bk) (35 + 6 * nP m) wh (36 + 6 * p)) (nP m) gl))) (by decide)
            have k5 := k4.ti (p := nP m) (v := 0) hp6
            have G5 := k4.hf2 G4 (i := 5) (x := .inl (0, 6, .inl (upd (cl 6 fun p => upd (upd (upd (upd m (33 + 6 * nP m) pu) (34 + 6 * nP m) bk) (35 + 6 * nP m) wh) (36 + 6 * nP m) gl (37 + 6 * p)) (nP m) 0))) (by decide)
            have k6 := k5.hu (p := nP m) (v := 0) hp6
            have G6 := k5.hf2 G5 (i := 6) (x := .inl (1, 6, .inl (upd (cl 6 fun p => upd (upd (upd (upd (upd m (33 + 6 * nP m) pu) (34 + 6 * nP m) bk) (35 + 6 * nP m) wh) (36 + 6 * nP m) gl) (37 + 6 * nP m) 0 (38 + 6 * p)) (nP m) 0))) (by decide)
            have e39 : upd (upd (upd (upd (upd (upd m (33 + 6 * nP m) pu) (34 + 6 * nP m) bk) (35 + 6 * nP m) wh) (36 + 6 * nP m) gl) (37 + 6 * nP m) 0) (38 + 6 * nP m) 0 3 = m 3 := by rw [upd_ne (by omega), upd_ne (by omega), upd_ne (by omega), upd_ne (by omega), upd_ne (by omega), upd_ne (by omega)]
            have k7 := k6.ob (k := 3) (v := m 3 + 1) (by decide)
            have G7 := k6.hf2 G6 (i := 0) (x := .inr (1, wobj (x + 16) (upd (upd (upd (upd (upd (upd (upd m (33 + 6 * nP m) pu) (34 + 6 * nP m) bk) (35 + 6 * nP m) wh) (36 + 6 * nP m) gl) (37 + 6 * nP m) 0) (38 + 6 * nP m) 0) 3 (m 3 + 1)) l)) (by decide)
            obtain ⟨ro, by'⟩ := pm_ok v lb hp6 (pu := pu) ib2 ib3 ig
            refine r_iast rfl (wa_go wa4) rfl hp6 (by decide) ?_
            refine r_aload_1 rfl ?_
            refine r_getf rfl (wa_o k4) rfl ?_
            refine r_iload_3 rfl ?_
            refine r_push rfl ?_
            refine r_iast rfl (wa_ti k4) rfl hp6 (by decide) ?_
            refine r_aload_1 rfl ?_
            refine r_getf rfl (wa_o k5) rfl ?_
            refine r_iload_3 rfl ?_
            refine r_push rfl ?_
            refine r_zast rfl (wa_hu k5) rfl hp6 (by decide) ?_
            refine r_aload_1 rfl ?_
            refine r_dupR rfl ?_
            refine r_getf rfl (wa_o k6) rfl ?_
            rw [e39]
            refine r_push rfl ?_
            refine r_iadd rfl ?_
            refine r_puti rfl (wa_o k6) rfl ?_
            refine r_vret rfl ?_
            refine Or.inl ⟨_, rfl, _, a4, b, by rw [eF, en1]; simp only [rB]; rw [en2]; simp only; rw [en3]; simp only; rw [eg]; rfl, k7, ro, by' b yb, ?_, h4e, ⟨bg4, q4.keep G7 (fun z => (nd _ z).2.1 rfl) (fun z => (nd _ z).2.2.1 rfl)⟩, (HF.trans (HF.trans F3 (f4.mono (fun z y => Or.inl y) (Nat.le_refl _) (Nat.le_refl _))) (G7.mono (fun z y => Or.inr y) (Nat.le_refl _) (Nat.le_refl _))).mono (fun _ z => z) (by omega) (by omega)⟩
            have : w_back.length = 4 := rfl
            have : w_at.length = 2 := rfl
            omega
          have bad : ∀ z c h4, goalF T e wh a3 = .inl z → FT f (x + 46) len e ft z 1 (am_set h3 (x + 16 + 3) (.inl (0, 6, .inl (upd (cl 6 fun p => upd (upd m (33 + 6 * nP m) pu) (34 + 6 * nP m) bk (35 + 6 * p)) (nP m) wh)))) c h4 ∨ (∃ h9, HF (isR (x + 46)) 10 1600 (am_set h3 (x + 16 + 3) (.inl (0, 6, .inl (upd (cl 6 fun p => upd (upd m (33 + 6 * nP m) pu) (34 + 6 * nP m) bk (35 + 6 * p)) (nP m) wh)))) h9 ∧ FT f (x + 46) len e ft z 1 h9 c h4) → ∃ z, personF T e m bb a = .inl z ∧ VF f x len e ft z 6 h c h4 := by
            intro z c h4 eg p
            refine ⟨z, by rw [eF, en1]; simp only [rB]; rw [en2]; simp only; rw [en3]; simp only; rw [eg], ?_⟩
            rcases p with p | ⟨h9, f9, p⟩
            · exact p.vf k3 F3 (by omega) (by omega)
            · exact p.vf (k3.keep f9 (fun z y => by simp only [isR] at y; omega)) (HF.trans F3 (f9.mono (fun z y => Or.inl y) (Nat.le_refl _) (Nat.le_refl _))) (by omega) (by omega)
          refine r_iast rfl (wa_at wa3) rfl hp6 (by decide) ?_
          refine r_aload_1 rfl ?_
          refine r_getf rfl (wa_o k3) rfl ?_
          refine r_iload_3 rfl ?_
          refine r_aload_2 rfl ?_
          refine r_globR rfl gG ?_
          refine r_invvE rfl rfl q3'.1 rfl rfl (by decide) (c_passes G3.w t q3' ha3 sG (by omega)) ?_
          rintro v4 h4 ⟨rfl, q4, f4⟩
          have wa4 := k3.keep f4 (fun z y => by simp only [isR] at y; omega)
          have hb3 := wb_le T ha3
          have hbg3 := wb_ge T e a3
          have hsg3 := sk_ge T e a3
          cases cg : wdF T e a3 w_goal with
          | true =>
            rw [cg, if_pos rfl] at q4
            have eg : goalF T e wh a3 = numF T e 0 11 (wbF T e a3) := by unfold goalF; rw [if_pos cg]
            have hx4 := f4.k hx3' (fun z => by simp only [isR] at z; omega)
            refine r_ifeqF rfl (by decide) ?_
            refine r_aload_0 rfl ?_
            refine r_invvT rfl rfl hx4 rfl rfl rfl (by decide) (c_placeTold gt f4.w hx4 t q4 hb3) ?_ ?_
            · rintro v5 h5 ⟨gl, a5, en5, rfl, ha5, q5, f5⟩
              have := num_lt en5
              refine r_goto rfl ?_
              exact fin gl a5 h5 (eg.trans en5) (num_in en5) (by omega) ha5 ((HF.trans f4 f5).mono (fun _ z => z) (by omega) (by omega)) ⟨_, q5⟩
            · rintro c h5 ⟨en5, p5⟩
              exact Or.inr ⟨_, _, rfl, bad _ _ _ (eg.trans en5) (Or.inr ⟨_, f4, p5⟩)⟩
          | false =>
            rw [cg, if_neg (by decide)] at q4
            have eg : goalF T e wh a3 = .inr (wh, skF T e a3) := by unfold goalF; rw [if_neg (by rw [cg]; decide)]
            refine r_ifeqT rfl rfl ?_
            refine r_aload_1 rfl ?_
            refine r_getf rfl (wa_o wa4) rfl ?_
            refine r_iload_3 rfl ?_
            refine r_iald rfl (wa_at wa4) rfl hp6 (by decide) ?_
            rw [cl_in hp6, upd_eq]
            exact fin wh (skF T e a3) h4 eg ib3 hsg3 (sk_le T ha3) (f4.mono (fun _ z => z) (by decide) (by decide)) ⟨_, q4⟩
        · rintro c h3 ⟨z, en3, p3⟩
          exact Or.inr ⟨_, _, rfl, z, by rw [eF, en1]; simp only [rB]; rw [en2]; simp only; rw [en3], p3.vf k2 F2 (by omega) (by omega)⟩
      · rintro c h2 ⟨z, en2, p2⟩
        exact Or.inr ⟨_, _, rfl, z, by rw [eF, en1]; simp only [rB]; rw [en2], p2.vf k1 F1 (by omega) (by omega)⟩
    · rintro c h1 ⟨en1, p1⟩
      exact Or.inr ⟨_, _, rfl, _, by rw [eF, en1]; rfl, p1.vf wa ((HF.refl w).mono (fun _ z => z) (Nat.le_refl _) (Nat.le_refl _)) (by omega) (by omega)⟩
end
