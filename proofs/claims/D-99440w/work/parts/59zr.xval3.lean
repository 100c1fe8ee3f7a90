/-! THE VALLEY'S TEXT: the system reads a stone -/
set_option maxRecDepth 100000
theorem other_r {T m : Nat → Int32} {e a k : Nat} {ws : List Int32} {one n : Int32} (z : afterF T e ws 0 (m 3 - 1) a = .inr (n, k)) : otherF T e m ws one a = if n = one then .inl (skF T e (wbF T e a)) else .inr (n, k) := by
  unfold afterF at z
  unfold otherF
  cases c : wantF T e ws a with
  | inl q => rw [c] at z; cases z
  | inr q =>
    have ew : q.2 = wbF T e a := by
      unfold wantF at c
      split at c
      · cases c; rfl
      · cases c
    obtain ⟨u, a1⟩ := q
    rw [c] at z
    have ew : a1 = wbF T e a := ew
    subst ew
    simp only [rB] at z ⊢
    rw [z]
theorem other_l {T m : Nat → Int32} {e a q : Nat} {ws : List Int32} {one : Int32} (z : afterF T e ws 0 (m 3 - 1) a = .inl q) : otherF T e m ws one a = .inl q := by
  unfold afterF at z
  unfold otherF
  cases c : wantF T e ws a with
  | inl q9 => rw [c] at z; exact z
  | inr q9 =>
    obtain ⟨u, a1⟩ := q9
    rw [c] at z
    simp only [rB] at z ⊢
    rw [z]
theorem isP {m : Nat → Int32} (v : VR m) {w : Int32} (h : inF w 0 (m 3 - 1) = true) : isB w (nP m) := by
  rw [v.pp.1] at h
  obtain ⟨i, hi, rfl⟩ := inF_nI (by have := v.pp.2; omega) h
  exact ⟨i, hi, rfl⟩
theorem ad_ok {m : Nat → Int32} (v : VR m) (lb : LB m) (hs : nS m < 10) {a c n w : Int32} (h1 : inF a 0 (m 3 - 1) = true) (h2 : inF c 0 (m 3 - 1) = true) (h3 : inF n 1 40 = true) (h4 : inF w 0 (m 3 - 1) = true) : RO m (adF m a c n w) := by
  have e4 := v.ss.1
  have hP := v.pp.2
  refine ⟨v.ad rfl hs (isP v h1) (isP v h2) (isW h3) (isP v h4), ⟨by rw [ad_lo e4 hs (by omega) (by omega)]; exact lb.1, fun r hr => ?_⟩, ad_lo e4 hs (by omega) (by omega), ad_lo e4 hs (by omega) (by omega), ad_lo e4 hs (by omega) (by omega), fun k hk => ad_lo e4 hs (by omega) (by omega)⟩
  have eP : nP (adF m a c n w) = nP m := by unfold nP; rw [ad_lo e4 hs (by omega) (by omega)]
  rw [eP] at hr
  rw [ad_lo e4 hs (by omega) (by omega)]
  exact lb.2 r hr
section
variable {T f : Nat → Int32} {e len x bs : Nat} {at_ bg ft dp : Int32} {hi : Bool} {h h0 : am_H} {G : am_G} {m b : Nat → Int32} {l : Value}
theorem c_aStone (w : HW h) (og : OG G bs h) (hbs : bs ≤ x) (hx : h.1 x = some (.inr (0, xobj x hi))) (t : TX T f e) {a bb : Nat} (q : RS h (x + 46) f len e (nI a) (nI bb) ft dp) (ha : a ≤ e) (wa : WA h (x + 16) m b l) (v : VR m) (yb : BY b m) (lb : LB m) : Etn G 12 m_X1_aStone [.ref x, .ref (x + 16)] h (VO T f x len e ft dp (stoneF T e m bb a) m l (a + 7) 4 h) (fun c h' => ∃ z, stoneF T e m bb a = .inl z ∧ VF f x len e ft z 7 h c h') := by
  have gt := og.gt
  have e4 := v.ss.1
  have hS := v.ss.2
  have o0 := wa_o wa
  have no : ∀ z, isR (x + 46) z → z < x + 16 ∨ x + 16 + 15 ≤ z := fun z y => by unfold isR at y; omega
  have up : ∀ {c s : Nat} {h1 h2 : am_H}, HF (isR (x + 46)) c s h1 h2 → HF (VP x) c s h1 h2 := fun f => f.mono (fun z y => Or.inl y) (Nat.le_refl _) (Nat.le_refl _)
  refine wc_in mt_X1_aStone rfl (L := [.ref x, .ref (x + 16), am_un, am_un, am_un, am_un, am_un]) rfl ?_
  by_cases c6 : m 4 = 10
  · have eF : stoneF T e m bb a = .inl bb := by unfold stoneF; rw [if_pos c6]
    rw [eF]
    refine r_aload_0 rfl ?_
    refine r_getf rfl (by assumption) (by rfl) ?_
    refine r_astore_2 rfl ?_
    refine r_aload_1 rfl ?_
    refine r_getf rfl (by assumption) (by rfl) ?_
    refine r_push rfl ?_
    refine r_icneF rfl (c6) ?_
    refine r_aload_2 rfl ?_
    refine r_invvE rfl rfl q.1 rfl rfl (by decide) (c_wrong (P := fun _ => False) gt w) ?_
    rintro v ha3 ⟨rfl, ⟨fs, o3⟩, f3⟩
    refine r_athrow rfl o3 rfl rfl ?_
    exact Or.inr ⟨_, _, rfl, _, rfl, rfl, ⟨_, _, q.keep f3 (fun z => z) (fun z => z)⟩, ⟨_, _, _, wa.keep f3 (fun a z => z.elim)⟩, f3.mono (fun _ z => z.elim) (by decide) (by decide)⟩
  · have hs10 : nS m < 10 := by
      rcases Nat.lt_or_eq_of_le hS with z | z
      · exact z
      · rw [z] at e4; exact absurd e4 c6
    have eF : stoneF T e m bb a = rB (numF T e 1 40 a) fun n a => rB (afterF T e w_of 0 (m 3 - 1) a) fun who a => rB (otherF T e m w_to who a) fun whom a => rB (wornByF T e m who whom a) fun worn a => .inr (adF m who whom n worn, a) := by unfold stoneF; rw [if_neg c6]
    obtain ⟨vO, gO, -⟩ := og.s 12 w_of (by decide)
    obtain ⟨vT, gT, -⟩ := og.s 13 w_to (by decide)
    obtain ⟨vW, gW, -⟩ := og.s 14 w_worn (by decide)
    obtain ⟨vY, gY, -⟩ := og.s 15 w_by (by decide)
    refine r_aload_0 rfl ?_
    refine r_getf rfl (by assumption) (by rfl) ?_
    refine r_astore_2 rfl ?_
    refine r_aload_1 rfl ?_
    refine r_getf rfl (by assumption) (by rfl) ?_
    refine r_push rfl ?_
    refine r_icneT rfl (c6) ?_
    refine r_aload_2 rfl ?_
    refine r_push rfl ?_
    refine r_push rfl ?_
    refine r_invvT rfl rfl q.1 rfl rfl rfl (by decide) (c_number gt w t q ha) ?_ ?_
    · rintro v1 h1 ⟨n, a1, en1, rfl, ha1, q1, f1⟩
      have hl1 := num_lt en1
      have hx1 := f1.k hx (fun z => by simp only [isR] at z; omega)
      have og1 := og.keep f1 (fun z y => by simp only [isR] at y; omega)
      have wa1 := wa.keep f1 no
      refine r_istore_3 rfl ?_
      refine r_aload_0 rfl ?_
      refine r_globR rfl gO ?_
      refine r_push rfl ?_
      refine r_aload_1 rfl ?_
      refine r_getf rfl (wa_o wa1) rfl ?_
      refine r_push rfl ?_
      refine r_isub rfl ?_
      refine r_invvT rfl rfl hx1 rfl rfl rfl (by decide) (c_after f1.w og1 hbs hx1 t q1 ha1 (ws := w_of) (by decide) gO) ?_ ?_
      · rintro v2 h2 ⟨who, a2, en2, rfl, hl2, ha2, ib2, ⟨bg2, q2, -⟩, f2⟩
        have hx2 := f2.k hx1 (fun z => by simp only [isR] at z; omega)
        have og2 := og1.keep f2 (fun z y => by simp only [isR] at y; omega)
        have wa2 := wa1.keep f2 no
        have F2 := HF.trans f1 f2
        refine r_istore_4 rfl ?_
        refine r_aload_0 rfl ?_
        refine r_globR rfl gT ?_
        refine r_push rfl ?_
        refine r_aload_1 rfl ?_
        refine r_getf rfl (wa_o wa2) rfl ?_
        refine r_push rfl ?_
        refine r_isub rfl ?_
        refine r_invvT rfl rfl hx2 rfl rfl rfl (by decide) (c_after f2.w og2 hbs hx2 t q2 ha2 (ws := w_to) (by decide) gT) ?_ ?_
        · rintro v3 h3 ⟨whom, a3, en3, rfl, hl3, ha3, ib3, ⟨bg3, q3, ebg3⟩, f3⟩
          have hx3 := f3.k hx2 (fun z => by simp only [isR] at z; omega)
          have og3 := og2.keep f3 (fun z y => by simp only [isR] at y; omega)
          have wa3 := wa2.keep f3 no
          have F3 := HF.trans F2 f3
          have er3 := other_r (one := who) en3
          refine r_istore_5 rfl ?_
          refine r_iload_5 rfl ?_
          refine r_iload_4 rfl ?_
          by_cases cw : whom = who
          · rw [if_pos cw] at er3
            rw [ebg3] at q3
            refine r_icneF rfl cw ?_
            refine r_aload_2 rfl ?_
            refine r_invvE rfl rfl q3.1 rfl rfl (by decide) (c_wrong (P := fun _ => False) gt f3.w) ?_
            rintro v4 h4 ⟨rfl, ⟨fs, o4⟩, f4⟩
            refine r_athrow rfl o4 rfl rfl ?_
            exact Or.inr ⟨_, _, rfl, _, by rw [eF, en1]; simp only [rB]; rw [en2]; simp only; rw [er3], rfl, ⟨_, _, q3.keep f4 (fun z => z) (fun z => z)⟩, ⟨_, _, _, wa3.keep f4 (fun a z => z.elim)⟩, (HF.trans (up F3) (f4.mono (fun _ z => z.elim) (Nat.le_refl _) (Nat.le_refl _))).mono (fun _ z => z) (by decide) (by decide)⟩
          · rw [if_neg cw] at er3
            obtain ⟨sW, ltW⟩ := gsa og3 (k := 14) (w := w_worn) (by decide) gW
            have fin : ∀ (worn : Int32) (a4 : Nat) (h4 : am_H), wornByF T e m who whom a3 = .inr (worn, a4) → inF worn 0 (m 3 - 1) = true → a3 ≤ a4 → a4 ≤ e → HF (isR (x + 46)) 20 3200 h3 h4 → (∃ bg, RS h4 (x + 46) f len e (nI a4) bg ft dp) → Wp G 12 mt_X1_aStone 109 [.ref x, .ref (x + 16), .ref (x + 46), .int n, .int who, .int whom, .int worn] [] h4 (fun R => (∃ h', R = .inl (none, h') ∧ VO T f x len e ft dp (stoneF T e m bb a) m l (a + 7) 4 h h') ∨ (∃ c h', R = .inr (c, h') ∧ ∃ z, stoneF T e m bb a = .inl z ∧ VF f x len e ft z 7 h c h')) := by
              intro worn a4 h4 eg ig h34 h4e f4 hq4
              obtain ⟨bg4, q4⟩ := hq4
              have wa4 := wa3.keep f4 no
              refine r_aload_1 rfl ?_
              refine r_iload_4 rfl ?_
              refine r_iload_5 rfl ?_
              refine r_iload_3 rfl ?_
              refine r_iload_6 rfl ?_
              refine r_invvE rfl rfl (wa_o wa4) rfl rfl (by decide) (c_adds wa4 f4.w hs10 e4 _ _ _ _) ?_
              rintro v5 h5 ⟨rfl, k5, f5⟩
              refine r_pop rfl ?_
              refine r_vret rfl ?_
              refine Or.inl ⟨_, rfl, _, a4, _, by rw [eF, en1]; simp only [rB]; rw [en2]; simp only; rw [er3]; simp only; rw [eg], k5, ad_ok v lb hs10 ib2 ib3 (num_in en1) ig, yb.ad e4 hs10, ?_, h4e, ⟨bg4, q4.keep f5 (fun z => by unfold InW at z; omega) (fun z => by unfold InW at z; omega)⟩, (HF.trans (HF.trans (up F3) (up f4)) (f5.mono (fun z y => Or.inr y) (Nat.le_refl _) (Nat.le_refl _))).mono (fun _ z => z) (by omega) (by omega)⟩
              have : w_of.length = 2 := rfl
              have : w_to.length = 2 := rfl
              omega
            have bad : ∀ z, wornByF T e m who whom a3 = .inl z → stoneF T e m bb a = .inl z := fun z eg => by rw [eF, en1]; simp only [rB]; rw [en2]; simp only; rw [er3]; simp only; rw [eg]
            refine r_icneT rfl cw ?_
            refine r_iload_4 rfl ?_
            refine r_istore_6 rfl ?_
            refine r_aload_2 rfl ?_
            refine r_globR rfl gW ?_
            refine r_invvE rfl rfl q3.1 rfl rfl (by decide) (c_passes f3.w t q3 ha3 sW (by omega)) ?_
            rintro v4 h4 ⟨rfl, q4, f4⟩
            have wa4 := wa3.keep f4 no
            have hb3 := wb_le T ha3
            have hbg3 := wb_ge T e a3
            have hsg3 := sk_ge T e a3
            cases cg : wdF T e a3 w_worn with
            | true =>
              rw [cg, if_pos rfl] at q4
              have eg : wornByF T e m who whom a3 = otherF T e m w_by whom (wbF T e a3) := by unfold wornByF; rw [if_pos cg]
              have hx4 := f4.k hx3 (fun z => by simp only [isR] at z; omega)
              have og4 := og3.keep f4 (fun z y => by simp only [isR] at y; omega)
              refine r_ifeqF rfl (by decide) ?_
              refine r_aload_0 rfl ?_
              refine r_globR rfl gY ?_
              refine r_push rfl ?_
              refine r_aload_1 rfl ?_
              refine r_getf rfl (wa_o wa4) rfl ?_
              refine r_push rfl ?_
              refine r_isub rfl ?_
              refine r_invvT rfl rfl hx4 rfl rfl rfl (by decide) (c_after f4.w og4 hbs hx4 t q4 hb3 (ws := w_by) (by decide) gY) ?_ ?_
              · rintro v5 h5 ⟨worn, a5, en5, rfl, hl5, ha5, ib5, ⟨bg5, q5, ebg5⟩, f5⟩
                have er5 := other_r (one := whom) en5
                refine r_istore_6 rfl ?_
                refine r_iload_6 rfl ?_
                refine r_iload_5 rfl ?_
                by_cases cy : worn = whom
                · rw [if_pos cy] at er5
                  rw [ebg5] at q5
                  refine r_icneF rfl cy ?_
                  refine r_aload_2 rfl ?_
                  refine r_invvE rfl rfl q5.1 rfl rfl (by decide) (c_wrong (P := fun _ => False) gt f5.w) ?_
                  rintro v6 h6 ⟨rfl, ⟨fs, o6⟩, f6⟩
                  refine r_athrow rfl o6 rfl rfl ?_
                  exact Or.inr ⟨_, _, rfl, _, bad _ (eg.trans er5), rfl, ⟨_, _, q5.keep f6 (fun z => z) (fun z => z)⟩, ⟨_, _, _, (wa4.keep f5 no).keep f6 (fun a z => z.elim)⟩, (HF.trans (HF.trans (HF.trans (up F3) (up f4)) (up f5)) (f6.mono (fun _ z => z.elim) (Nat.le_refl _) (Nat.le_refl _))).mono (fun _ z => z) (by decide) (by decide)⟩
                · rw [if_neg cy] at er5
                  refine r_icneT rfl cy ?_
                  exact fin worn a5 h5 (eg.trans er5) ib5 (by omega) ha5 ((HF.trans f4 f5).mono (fun _ z => z) (by omega) (by omega)) ⟨_, q5⟩
              · rintro c h5 ⟨z, en5, p5⟩
                exact Or.inr ⟨_, _, rfl, z, bad _ (eg.trans (other_l en5)), p5.vf wa4 (HF.trans (up F3) (up f4)) (by omega) (by omega)⟩
            | false =>
              rw [cg, if_neg (by decide)] at q4
              have eg : wornByF T e m who whom a3 = .inr (who, skF T e a3) := by unfold wornByF; rw [if_neg (by rw [cg]; decide)]
              refine r_ifeqT rfl rfl ?_
              exact fin who (skF T e a3) h4 eg ib2 hsg3 (sk_le T ha3) (f4.mono (fun _ z => z) (by decide) (by decide)) ⟨_, q4⟩
        · rintro c h3 ⟨z, en3, p3⟩
          exact Or.inr ⟨_, _, rfl, z, by rw [eF, en1]; simp only [rB]; rw [en2]; simp only; rw [other_l en3], p3.vf wa2 (up F2) (by omega) (by omega)⟩
      · rintro c h2 ⟨z, en2, p2⟩
        exact Or.inr ⟨_, _, rfl, z, by rw [eF, en1]; simp only [rB]; rw [en2], p2.vf wa1 (up f1) (by omega) (by omega)⟩
    · rintro c h1 ⟨en1, p1⟩
      exact Or.inr ⟨_, _, rfl, _, by rw [eF, en1]; rfl, p1.vf wa ((HF.refl w).mono (fun _ z => z) (Nat.le_refl _) (Nat.le_refl _)) (by omega) (by omega)⟩
end
