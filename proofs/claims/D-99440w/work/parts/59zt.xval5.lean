/-! THE VALLEY'S TEXT: the system reads all lines -/
set_option maxRecDepth 100000
theorem RO.refl {m : Nat → Int32} (v : VR m) (lb : LB m) : RO m m := ⟨v, lb, rfl, rfl, rfl, fun _ _ => rfl⟩
theorem RO.trans {m m' m'' : Nat → Int32} (a : RO m m') (c : RO m' m'') : RO m m'' := ⟨c.1, c.2.1, c.2.2.1.trans a.2.2.1, c.2.2.2.1.trans a.2.2.2.1, c.2.2.2.2.1.trans a.2.2.2.2.1, fun k hk => (c.2.2.2.2.2 k hk).trans (a.2.2.2.2.2 k hk)⟩
section
variable {T f : Nat → Int32} {e len x bs : Nat} {at_ bg ft dp : Int32} {hi : Bool} {h h0 : am_H} {G : am_G} {m b : Nat → Int32} {l : Value}
/-- what the valley's text answers -/
def VT (T f : Nat → Int32) (x len e : Nat) (ft dp : Int32) (res : RD (Nat → Int32)) (m : Nat → Int32) (l : Value) (n : Nat) (h0 : am_H) : am_O → Prop := fun R => (∃ h', R = .inl (none, h') ∧ ∃ m' b', res = .inr (m', e) ∧ WA h' (x + 16) m' b' l ∧ RO m m' ∧ BY b' m' ∧ (∃ at_ bg, RS h' (x + 46) f len e at_ bg ft dp) ∧ HC (VP x) n h0 h') ∨ (∃ c h', R = .inr (c, h') ∧ ∃ z, res = .inl z ∧ VF f x len e ft z n h0 c h')
theorem c_valLoop (hbs : bs ≤ x) (t : TX T f e) (v0 : VR m) (lb0 : LB m) : ∀ n k a h m1 b1, k + n = 15 ∧ k ≤ 14 → a ≤ e → RO m m1 → BY b1 m1 → WA h (x + 16) m1 b1 l → OG G bs h → h.1 x = some (.inr (0, xobj x hi)) → (∃ bg, RS h (x + 46) f len e (nI a) bg ft dp) → HC (VP x) a h0 h → Wp G 14 mt_X1_valleyText 13 [.ref x, .ref (x + 16), .int (nI k)] [] h (VT T f x len e ft dp (lnL T e 14 (vlineF T e) n k m1 a) m l (e + 9) h0)
  | 0, _, _, _, _, _, hn, _, _, _, _, _, _, _, _ => absurd hn (by omega)
  | n + 1, k, a, h, m1, b1, hn, ha, ro, yb, wa, og, hx, ⟨bg, q⟩, F => by
    have he := t.1
    have w := F.w
    have hsa := sk_le T ha
    have no : ∀ z, isR (x + 46) z → z < x + 16 ∨ x + 16 + 15 ≤ z := fun z y => by unfold isR at y; omega
    have up : ∀ {c s : Nat} {h1 h2 : am_H}, HF (isR (x + 46)) c s h1 h2 → HF (VP x) c s h1 h2 := fun f => f.mono (fun z y => Or.inl y) (Nat.le_refl _) (Nat.le_refl _)
    have nv : ∀ z, VP x z → bs ≤ z ∧ z ≠ x := fun z y => by unfold VP isR InW at y; omega
    refine r_aload_0 rfl ?_
    refine r_iload_2 rfl ?_
    refine r_push rfl ?_
    refine r_invvS rfl rfl hx rfl rfl rfl (by decide) (c_noMore (n := k) (m := 14) w og hbs hx t q ha hn.2 (by decide)) ?_ ?_
    · rintro h1 ⟨hne, rfl⟩
      have el : lnL T e 14 (vlineF T e) (n + 1) k m1 a = rB (vlineF T e m1 a) fun m a => if skF T e a = e then .inr (m, e) else if T (skF T e a) = 59 then lnL T e 14 (vlineF T e) n (k + 1) m (skF T e a + 1) else .inl (skF T e a) := by
        rw [lnL, if_neg hne]
      rw [el]
      refine r_aload_0 rfl ?_
      refine r_aload_1 rfl ?_
      refine r_invvS rfl rfl hx rfl rfl rfl (by decide) (c_valLine w og hbs hx t q ha wa ro.1 yb ro.2.1) ?_ ?_
      · rintro h2 ⟨m2, a2, b2, e2, wa2, ro2, yb2, ha2, hae, ⟨bg2, q2⟩, f2⟩
        rw [e2]
        show Wp G 14 mt_X1_valleyText 25 _ _ h2 (VT T f x len e ft dp (if skF T e a2 = e then .inr (m2, e) else if T (skF T e a2) = 59 then lnL T e 14 (vlineF T e) n (k + 1) m2 (skF T e a2 + 1) else .inl (skF T e a2)) m l (e + 9) h0)
        have F2 : HC (VP x) a2 h0 h2 := (HF.trans F f2).mono (fun _ z => z) (by omega) (by omega)
        have hx2 := f2.k hx (fun z => (nv _ z).2 rfl)
        have og2 := og.keep f2 (fun z y => (nv z y).1)
        have hsg := sk_ge T e a2
        have hs2 := sk_le T hae
        refine r_iinc_2 rfl ?_
        rw [nI_1]
        refine r_aload_0 rfl ?_
        refine r_invvT rfl rfl hx2 rfl rfl rfl (by decide) (c_goesOn f2.w og2 hbs hx2 t q2 hae) ?_ ?_
        · rintro v h4 ⟨⟨c1, rfl, bg4, q4⟩ | ⟨c1, c2, rfl, bg4, q4⟩, f4⟩
          · rw [if_pos c1]
            refine r_ifneF rfl rfl ?_
            refine r_vret rfl ?_
            exact Or.inl ⟨_, rfl, m2, b2, rfl, wa2.keep f4 no, ro.trans ro2, yb2, ⟨_, _, q4⟩, (HF.trans F2 (up f4)).mono (fun _ z => z) (by omega) (by omega)⟩
          · rw [if_neg c1, if_pos c2]
            refine r_ifneT rfl (by decide) ?_
            exact c_valLoop hbs t v0 lb0 n (k + 1) (skF T e a2 + 1) h4 m2 b2 ⟨by omega, by omega⟩ (by omega) (ro.trans ro2) yb2 (wa2.keep f4 no) (og2.keep f4 (fun z y => by simp only [isR] at y; omega)) (f4.k hx2 (fun z => by simp only [isR] at z; omega)) ⟨_, q4⟩ ((HF.trans F2 (up f4)).mono (fun _ z => z) (by omega) (by omega))
        · rintro c9 h4 ⟨⟨c1, c2⟩, p4⟩
          rw [if_neg c1, if_neg c2]
          exact Or.inr ⟨_, _, rfl, _, rfl, p4.vf wa2 F2 (by omega) (by omega)⟩
      · rintro c9 h2 ⟨z, ez, p2⟩
        rw [ez]
        exact Or.inr ⟨_, _, rfl, z, rfl, p2.up F ⟨by omega, by omega⟩⟩
    · rintro c9 h1 ⟨e1, p1⟩
      have el : lnL T e 14 (vlineF T e) (n + 1) k m1 a = .inl (skF T e a) := by rw [lnL, if_pos e1]
      rw [el]
      exact Or.inr ⟨_, _, rfl, _, rfl, p1.vf wa F (by omega) (by omega)⟩
theorem c_valText (w : HW h) (og : OG G bs h) (hbs : bs ≤ x) (hx : h.1 x = some (.inr (0, xobj x hi))) (t : TX T f e) (q : RS h (x + 46) f len e (nI 0) bg ft dp) (wa : WA h (x + 16) m b l) (v : VR m) (yb : BY b m) (lb : LB m) : Wc G 14 m_X1_valleyText [.ref x, .ref (x + 16)] h (VT T f x len e ft dp (valF T e m) m l (e + 9) h) := by
  have he := t.1
  have hs := sk_le T (Nat.zero_le e)
  have no : ∀ z, isR (x + 46) z → z < x + 16 ∨ x + 16 + 15 ≤ z := fun z y => by unfold isR at y; omega
  have up : ∀ {c s : Nat} {h1 h2 : am_H}, HF (isR (x + 46)) c s h1 h2 → HF (VP x) c s h1 h2 := fun f => f.mono (fun z y => Or.inl y) (Nat.le_refl _) (Nat.le_refl _)
  refine wc_in mt_X1_valleyText rfl (L := [.ref x, .ref (x + 16), am_un]) rfl ?_
  refine r_aload_0 rfl ?_
  refine r_getf rfl hx rfl ?_
  refine r_invvE rfl rfl q.1 rfl rfl (by decide) (c_isOver w t q (Nat.zero_le _)) ?_
  rintro u1 h4 ⟨rfl, q4, f4⟩
  refine r_ifeq rfl (fun c => ?_) (fun c => ?_)
  · have c0 : skF T e 0 ≠ e := of_decide_eq_false (bI_0.mp c)
    have el : valF T e m = lnL T e 14 (vlineF T e) 15 0 m (skF T e 0) := by unfold valF linesF; rw [if_neg c0]
    rw [el]
    refine r_push rfl ?_
    refine r_istore_2 rfl ?_
    exact c_valLoop hbs t v lb 15 0 (skF T e 0) h4 m b ⟨rfl, by decide⟩ hs (RO.refl v lb) yb (wa.keep f4 no) (og.keep f4 (fun z y => by simp only [isR] at y; omega)) (f4.k hx (fun z => by simp only [isR] at z; omega)) ⟨_, q4⟩ ((up f4).mono (fun _ z => z) (by omega) (by omega))
  · have c0 : skF T e 0 = e := of_decide_eq_true (bI_n0.mp c)
    have el : valF T e m = .inr (m, e) := by unfold valF linesF; rw [if_pos c0]
    rw [el]
    refine r_vret rfl ?_
    exact Or.inl ⟨_, rfl, m, b, rfl, wa.keep f4 no, RO.refl v lb, yb, ⟨_, _, q4⟩, (up f4).mono (fun _ z => z) (by omega) (by omega)⟩
theorem c_fails (w : HW h) (hx : h.1 x = some (.inr (0, xobj x hi))) (q : RS h (x + 46) f len e at_ bg ft dp) : Wc G 0 m_X1_fails [.ref x] h (fun R => ∃ h', RS h' (x + 46) f len e at_ bg bg dp ∧ HF (isR (x + 46)) 0 0 h h' ∧ R = .inr (18, am_skip h' 6)) := by
  have o := q.1
  have f1 : HF (isR (x + 46)) 0 0 h (am_set h (x + 46) (.inr (2, robj (x + 46) len e at_ bg bg dp))) := (HF.set w o).mono (fun a z => z) (Nat.le_refl _) (Nat.le_refl _)
  refine wc_in mt_X1_fails rfl (L := [.ref x]) rfl ?_
  refine r_aload_0 rfl ?_
  refine r_getf rfl (hx) (by rfl) ?_
  refine r_aload_0 rfl ?_
  refine r_getf rfl (hx) (by rfl) ?_
  refine r_getf rfl (o) (by rfl) ?_
  refine r_puti rfl (o) rfl ?_
  refine r_thr rfl rfl rfl ?_
  exact ⟨_, ⟨am_set_at, am_set_k q.2 (by omega)⟩, f1, rfl⟩
end
