/-! PARSE: the law's text -/
set_option maxRecDepth 100000
theorem ekLn {G : am_G} {bs : Nat} : EK (LnA G bs) := fun _ _ _ _ _ _ k s q => q.keep k s
section
variable {T f : Nat → Int32} {e len x bs : Nat} {at_ bg ft dp : Int32} {hi : Bool} {h h0 : am_H} {G : am_G}
/-- what the law's text answers -/
def lawQ (T f : Nat → Int32) (G : am_G) (bs x len e : Nat) (ft : Int32) (a0 : Nat) (h0 : am_H) (res : RD (List Ln)) (R : am_O) : Prop :=
  (∃ v h', R = .inl (some v, h') ∧ ∃ p ls a', res = .inr (ls, a') ∧ v = .ref p ∧ LwA G bs h' (Sv bs h0.2.1 h'.2.1) p ls ∧ ls.length ≤ 12 ∧ h0.2.1 ≤ p ∧ (∃ at_ bg, RS h' (x + 46) f len e at_ bg ft 0) ∧ HC (isR (x + 46)) (3 * (e - a0) + 3) h0 h') ∨
  (∃ c h', R = .inr (c, h') ∧ ∃ z, res = .inl z ∧ FT f (x + 46) len e ft z (3 * (e - a0) + 20) h0 c h')
theorem c_lawLoop (w0 : HW h0) (hbs : bs ≤ x) (hx0 : x + 47 < h0.2.1) (t : TX T f e) {a0 : Nat} : ∀ n k a h (wa la arr : Nat) (xs : List Nat) (ls : List Ln), k + n = 13 ∧ k ≤ 12 → xs.length = k → ls.length = k → 5 * k + a0 ≤ a → a ≤ e → OG G bs h → h.1 x = some (.inr (0, xobj x hi)) → (∃ bg, RS h (x + 46) f len e (nI a) bg ft 0) → h0.2.1 ≤ wa → h.1 wa = some (.inr (8, [.ref la])) → wa < la → GL (LnA G bs) G bs h h0.2.1 la arr xs (fun i => ls.getD i (0, 0, fun _ => true)) → HC (isR (x + 46)) (3 * (a - a0) + 1) h0 h →
    Wp G 35 mt_X1_lawText 20 [.ref x, .ref wa] [] h (lawQ T f G bs x len e ft a0 h0 (lnL T e 12 (llineF T e) n k ls a))
  | 0, _, _, _, _, _, _, _, _, hn, _, _, _, _, _, _, _, _, _, _, _, _ => absurd hn (by omega)
  | n + 1, k, a, h, wa, la, arr, xs, ls, hn, hk, hl, hka, ha, og, hx, ⟨bg, q⟩, hwa, os, hsl, gl, F => by
    have he := t.1
    have w := F.w
    have hsa := sk_le T ha
    obtain ⟨_, _, _, _, ol0, -⟩ := id gl.al
    refine r_aload_0 rfl ?_
    refine r_aload_1 rfl ?_
    refine r_getf rfl os rfl ?_
    refine r_invvP_0 rfl ol0 rfl rfl (e := 0) (by decide) (c_alSize gl.al) ?_
    refine r_push rfl ?_
    refine r_invvS rfl rfl hx rfl rfl rfl (by decide) (c_noMore (n := xs.length) (m := 12) w og hbs hx t q ha (by omega) (by decide)) ?_ ?_
    · rintro h1 ⟨hne, rfl⟩
      have hk12 : k ≠ 12 := by omega
      have el : lnL T e 12 (llineF T e) (n + 1) k ls a = rB (llineF T e ls a) fun m a => if skF T e a = e then .inr (m, e) else if T (skF T e a) = 59 then lnL T e 12 (llineF T e) n (k + 1) m (skF T e a + 1) else .inl (skF T e a) := by
        rw [lnL, if_neg hk12]
      rw [el]
      refine r_aload_1 rfl ?_
      refine r_getf rfl os rfl ?_
      refine r_aload_0 rfl ?_
      refine r_invvT rfl rfl hx rfl rfl rfl (by decide) (c_lawLine w og hbs hx t q ha) ?_ ?_
      · rintro v h2 ⟨p, l, a2, e2, rfl, hp, hpn, ⟨fs, op⟩, ha2, hae, ⟨bg2, q2⟩, f2⟩
        have ell : llineF T e ls a = .inr (ls ++ [l], a2) := by unfold llineF; rw [e2]; rfl
        rw [ell]
        show Wp G 35 mt_X1_lawText 41 _ _ h2 (lawQ T f G bs x len e ft a0 h0 (if skF T e a2 = e then .inr (ls ++ [l], e) else if T (skF T e a2) = 59 then lnL T e 12 (llineF T e) n (k + 1) (ls ++ [l]) (skF T e a2 + 1) else .inl (skF T e a2)))
        have hz0 := F.z
        have w2 := f2.w
        have hz2 := f2.z
        have og2 := og.keep f2 (fun z y => by simp only [isR] at y; omega)
        have hx2 := f2.k hx (fun z => by simp only [isR] at z; omega)
        have gl2 := gl.item ekLn f2 (by omega) (by omega)
        have os2 := f2.k os (fun z => by simp only [isR] at z; omega)
        obtain ⟨⟨gb, gla, garr⟩, gal, -⟩ := id gl2
        obtain ⟨_, _, _, _, ol, -⟩ := id gal
        have hlaw := w _ _ ol0
        have harw := gl.al.arr_lt w
        refine r_invvE rfl rfl ol rfl rfl (by decide) (c_alAdd w2 og2 (by omega) gal (by omega) (by omega) op (by omega)) ?_
        rintro v h3 ⟨rfl, arr', k1, k2, k3, f3⟩
        have gl3 := gl2.add ekLn w2 hp ⟨by omega, Nat.le_refl _, by omega, Or.inl harw⟩ k1 k2 k3 f3
        have w3 := f3.w
        have nA : ∀ z, ALP bs la arr z → h0.2.1 ≤ z := fun z y => by rcases y with y | y <;> omega
        have og3 := og2.keep f3 (fun z y => by have := nA z y; omega)
        have hx3 := f3.k hx2 (fun z => by have := nA _ z; omega)
        have q3 := q2.keep f3 (fun z => by have := nA _ z; omega) (fun z => by have := nA _ z; omega)
        have nsa : ¬ ALP bs la arr wa := by
          rintro (z | z)
          · omega
          · obtain ⟨_, _, _, _, -, oz, -⟩ := id gal
            rw [← z.1, os2] at oz
            cases oz
        have os3 := f3.k os2 nsa
        have F3 : HC (isR (x + 46)) (3 * (a2 - a0) - 3) h0 h3 := (HF.transN w0 (HF.trans F f2) f3 (fun z y => Or.inr (nA z y))).mono (fun _ z => z) (by omega) (by omega)
        have ecs : (fun i => if i < xs.length then ls.getD i (0, 0, fun _ => true) else l) = fun i => if i < xs.length then ls.getD i (0, 0, fun _ => true) else l := rfl
        have gl3' : GL (LnA G bs) G bs h3 h0.2.1 la arr' (xs ++ [p]) (fun i => (ls ++ [l]).getD i (0, 0, fun _ => true)) := by
          obtain ⟨y1, y2, y3⟩ := gl3
          refine ⟨y1, y2, fun i hi => ?_⟩
          obtain ⟨l9, u9, z1, z2⟩ := y3 i hi
          refine ⟨l9, u9, ?_, z2⟩
          have ee : (if i < xs.length then ls.getD i (0, 0, fun _ => true) else l) = (ls ++ [l]).getD i (0, 0, fun _ => true) := by
            rw [List.length_append, List.length_singleton] at hi
            by_cases z : i < xs.length
            · rw [if_pos z, List.getD_eq_getElem?_getD, List.getD_eq_getElem?_getD, List.getElem?_append_left (by omega)]
            · rw [if_neg z, List.getD_eq_getElem?_getD, List.getElem?_append_right (by omega), show i - ls.length = 0 by omega]; rfl
          show LnA G bs h3 (Sv bs l9 u9) (xs ++ [p])[i] ((ls ++ [l]).getD i (0, 0, fun _ => true))
          rw [← ee]
          exact z1
        refine r_pop rfl ?_
        refine r_aload_0 rfl ?_
        refine r_invvT rfl rfl hx3 rfl rfl rfl (by decide) (c_goesOn w3 og3 hbs hx3 t q3 hae) ?_ ?_
        · rintro v h4 ⟨⟨c1, rfl, bg4, q4⟩ | ⟨c1, c2, rfl, bg4, q4⟩, f4⟩
          · rw [if_pos c1]
            have w4 := f4.w
            have F4 : HC (isR (x + 46)) (3 * (e - a0) + 3) h0 h4 := (HF.trans F3 f4).mono (fun _ z => z) (by omega) (by omega)
            have gl4 := gl3'.item ekLn f4 (by omega) (by omega)
            have os4 := f4.k os3 (fun z => by simp only [isR] at z; omega)
            obtain ⟨g9, g10⟩ := gl4.ls ekLn w4
            refine r_ifneF rfl rfl ?_
            refine r_aload_1 rfl ?_
            refine r_aret rfl ?_
            refine Or.inl ⟨_, _, rfl, wa, _, _, rfl, rfl, ⟨Or.inr ⟨hwa, w4 _ _ os4⟩, la, _, os4, g9, by rw [List.length_append, List.length_append, hk, hl]; rfl, fun i hi hj => ?_⟩, by rw [List.length_append, List.length_singleton]; omega, hwa, ⟨_, _, q4⟩, F4⟩
            have := g10 i hi
            rw [List.getD_eq_getElem?_getD, List.getElem?_eq_getElem hj] at this
            exact this
          · rw [if_neg c1, if_pos c2]
            have hs4 := sk_le T hae
            have hg4 := sk_ge T e a2
            refine r_ifneT rfl (by decide) ?_
            exact c_lawLoop w0 hbs hx0 t n (k + 1) (skF T e a2 + 1) h4 wa la arr' (xs ++ [p]) (ls ++ [l]) ⟨by omega, by omega⟩ (by rw [List.length_append, List.length_singleton, hk]) (by rw [List.length_append, List.length_singleton, hl]) (by omega) (by omega) (og3.keep f4 (fun z y => by simp only [isR] at y; omega)) (f4.k hx3 (fun z => by simp only [isR] at z; omega)) ⟨_, q4⟩ hwa (f4.k os3 (fun z => by simp only [isR] at z; omega)) hsl (gl3'.item ekLn f4 (by omega) (by omega)) ((HF.trans F3 f4).mono (fun _ z => z) (by omega) (by omega))
        · rintro c9 h4 ⟨⟨c1, c2⟩, p4⟩
          rw [if_neg c1, if_neg c2]
          exact Or.inr ⟨_, _, rfl, _, rfl, p4.mono F3 (by omega) (by omega)⟩
      · rintro c9 h2 ⟨z, ez, p2⟩
        have ell : llineF T e ls a = .inl z := by unfold llineF; rw [ez]; rfl
        rw [ell]
        exact Or.inr ⟨_, _, rfl, z, rfl, p2.mono F (by omega) (by omega)⟩
    · rintro c9 h1 ⟨e1, p1⟩
      have el : lnL T e 12 (llineF T e) (n + 1) k ls a = .inl (skF T e a) := by rw [lnL, if_pos (by omega)]
      rw [el]
      exact Or.inr ⟨_, _, rfl, _, rfl, p1.mono F (by omega) (by omega)⟩
theorem c_lawText (w : HW h) (og : OG G bs h) (hbs : bs ≤ x) (hx : h.1 x = some (.inr (0, xobj x hi))) (t : TX T f e) (q : RS h (x + 46) f len e (nI 0) bg ft 0) : Wc G 35 m_X1_lawText [.ref x] h (lawQ T f G bs x len e ft 0 h (lawF T e)) := by
  have he := t.1
  have hx47 : x + 47 < h.2.1 := w _ _ q.2
  have hs := sk_le T (Nat.zero_le e)
  have f1 := HF.new (n := 1) (e := .inr (8, [.null])) w
  have og1 := og.keep f1 (fun _ z => z.elim)
  refine wc_in mt_X1_lawText rfl (L := [.ref x, am_un]) rfl ?_
  refine r_new rfl rfl ?_
  refine r_dupR rfl ?_
  refine r_inviF rfl rfl rfl (by decide) (c_lawInit f1.w og1 am_new_at) ?_
  rintro h1 ⟨o1, ⟨arr, hb, al⟩, f2⟩
  have f3 : HF (fun _ => False) 2 4 h h1 := HF.transN w f1 f2 (fun z y => Or.inr (Nat.le_of_eq y.symm))
  have F3 : HC (isR (x + 46)) 1 h h1 := f3.mono (fun _ z => z.elim) (by decide) (by decide)
  have q1 := q.keep f3 (fun z => z) (fun z => z)
  have hx1 := f3.k hx (fun z => z)
  have og2 := og.keep f3 (fun _ z => z.elim)
  refine r_astore_1 rfl ?_
  refine r_aload_0 rfl ?_
  refine r_getf rfl hx1 rfl ?_
  refine r_invvE rfl rfl q1.1 rfl rfl (by decide) (c_isOver f3.w t q1 (Nat.zero_le _)) ?_
  rintro v h4 ⟨rfl, q4, f4⟩
  have w4 := f4.w
  have hx4 := f4.k hx1 (fun z => by simp only [isR] at z; omega)
  have og4 := og2.keep f4 (fun z y => by simp only [isR] at y; omega)
  have F4 : HC (isR (x + 46)) 1 h h4 := (HF.trans F3 f4).mono (fun _ z => z) (by omega) (by omega)
  have o4 := f4.k o1 (fun z => by simp only [isR] at z; have : (am_new h (.inr (8, [.null])) 1).2.1 = h.2.1 + 1 := rfl; omega)
  have gl : GL (LnA G bs) G bs h1 h.2.1 (h.2.1 + 1) arr [] (fun i => ([] : List Ln).getD i (0, 0, fun _ => true)) := ⟨⟨by omega, by omega, fun z => absurd z (by omega)⟩, al, fun i hi => absurd hi (by simp)⟩
  have gl4 := gl.item ekLn f4 (by omega) (by omega)
  refine r_ifeq rfl (fun c => ?_) (fun c => ?_)
  · have c0 : skF T e 0 ≠ e := of_decide_eq_false (bI_0.mp c)
    have el : lawF T e = lnL T e 12 (llineF T e) 13 0 [] (skF T e 0) := by unfold lawF linesF; rw [if_neg c0]
    rw [el]
    exact c_lawLoop (a0 := 0) w hbs hx47 t 13 0 (skF T e 0) h4 h.2.1 (h.2.1 + 1) arr [] [] ⟨rfl, by decide⟩ rfl rfl (by omega) hs og4 hx4 ⟨_, q4⟩ (Nat.le_refl _) o4 (Nat.lt_succ_self _) gl4 (F4.mono (fun _ z => z) (by omega) (by omega))
  · have c0 : skF T e 0 = e := of_decide_eq_true (bI_n0.mp c)
    have el : lawF T e = .inr ([], e) := by unfold lawF linesF; rw [if_pos c0]
    rw [el]
    obtain ⟨g9, g10⟩ := gl4.ls ekLn w4
    refine r_aload_1 rfl ?_
    refine r_aret rfl ?_
    exact Or.inl ⟨_, _, rfl, h.2.1, _, _, rfl, rfl, ⟨Or.inr ⟨Nat.le_refl _, w4 _ _ o4⟩, _, _, o4, g9, rfl, fun i hi hj => absurd hi (by simp)⟩, Nat.zero_le _, Nat.le_refl _, ⟨_, _, q4⟩, F4.mono (fun _ z => z) (by omega) (by omega)⟩
end
