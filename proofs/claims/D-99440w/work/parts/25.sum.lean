/-! PARSE: lists that grow; sums -/
set_option maxRecDepth 100000
/-- a list under way: its elements are so as E says, apart from the list's own cells -/
def GL {α : Type} (E : am_H → (Nat → Prop) → Nat → α → Prop) (G : am_G) (bs : Nat) (h : am_H) (lo la arr : Nat) (xs : List Nat) (cs : Nat → α) : Prop :=
  (bs ≤ lo ∧ lo ≤ la ∧ (bs ≤ arr → lo ≤ arr)) ∧ AL G bs h la arr xs ∧ ∀ i (hi : i < xs.length), ∃ l u, E h (Sv bs l u) xs[i] (cs i) ∧ (lo ≤ l ∧ u ≤ h.2.1 ∧ la < l ∧ (arr < l ∨ u ≤ arr))
def EK {α : Type} (E : am_H → (Nat → Prop) → Nat → α → Prop) : Prop := ∀ h h' S S' a c, SK S h h' → (∀ z, S z → S' z) → E h S a c → E h' S' a c
section
variable {α : Type} {E : am_H → (Nat → Prop) → Nat → α → Prop} {G : am_G} {bs lo la arr : Nat} {h h' : am_H} {xs : List Nat} {cs : Nat → α}
theorem GL.item (hE : EK E) (g : GL E G bs h lo la arr xs cs) {r c s : Nat} (f : HF (isR r) c s h h') (h1 : bs ≤ r) (h2 : r < lo) : GL E G bs h' lo la arr xs cs := by
  obtain ⟨⟨g1, g2, g3⟩, g4, g5⟩ := g
  refine ⟨⟨g1, g2, g3⟩, g4.keep f (fun z => by simp only [isR] at z; omega) (fun z => by simp only [isR] at z; omega), fun i hi => ?_⟩
  obtain ⟨l, u, q1, q2, q3, q4⟩ := g5 i hi
  refine ⟨l, u, hE _ _ _ _ _ _ (f.sk (fun z y k => ?_)) (fun _ z => z) q1, q2, Nat.le_trans q3 f.z, q4⟩
  simp only [isR] at k
  rcases y with y | y <;> omega
theorem GL.al (g : GL E G bs h lo la arr xs cs) : AL G bs h la arr xs := g.2.1
theorem AL.arr_lt (q : AL G bs h la arr xs) (w : HW h) : arr < h.2.1 := by
  obtain ⟨_, _, _, _, -, q1, -⟩ := q
  exact w _ _ q1
theorem GL.add (hE : EK E) (w : HW h) (g : GL E G bs h lo la arr xs cs) {h3 : am_H} {arr' b l u : Nat} {c0 : α} (e0 : E h (Sv bs l u) b c0) (k : lo ≤ l ∧ u ≤ h.2.1 ∧ la < l ∧ (arr < l ∨ u ≤ arr)) (ha : arr' = arr ∨ arr' = h.2.1) (hb : bs ≤ arr') (q : AL G bs h3 la arr' (xs ++ [b])) (f : HF (ALP bs la arr) 1 600 h h3) : GL E G bs h3 lo la arr' (xs ++ [b]) (fun i => if i < xs.length then cs i else c0) := by
  obtain ⟨⟨g1, g2, g3⟩, g4, g5⟩ := g
  have hz := f.z
  have key : ∀ l u, (lo ≤ l ∧ u ≤ h.2.1 ∧ la < l ∧ (arr < l ∨ u ≤ arr)) → SK (Sv bs l u) h h3 := fun l u k => f.sk (fun z y p => by
    rcases p with p | p <;> rcases y with y | y <;> omega)
  have key2 : ∀ l u, (lo ≤ l ∧ u ≤ h.2.1 ∧ la < l ∧ (arr < l ∨ u ≤ arr)) → (lo ≤ l ∧ u ≤ h3.2.1 ∧ la < l ∧ (arr' < l ∨ u ≤ arr')) := fun l u k => ⟨k.1, by omega, k.2.2.1, by rcases ha with z | z <;> rw [z] <;> omega⟩
  refine ⟨⟨g1, g2, fun y => ?_⟩, q, fun i hi => ?_⟩
  · rcases ha with z | z
    · rw [z] at y ⊢; exact g3 y
    · obtain ⟨_, _, _, _, z1, _⟩ := g4
      have := w _ _ z1
      omega
  · by_cases z : i < xs.length
    · obtain ⟨l, u, q1, q2⟩ := g5 i z
      refine ⟨l, u, ?_, key2 l u q2⟩
      show E h3 _ _ (if i < xs.length then cs i else c0)
      rw [if_pos z, List.getElem_append_left z]
      exact hE _ _ _ _ _ _ (key l u q2) (fun _ y => y) q1
    · refine ⟨l, u, ?_, key2 l u k⟩
      rw [List.length_append, List.length_singleton] at hi
      have e : i = xs.length := by omega
      subst e
      show E h3 _ _ (if xs.length < xs.length then cs xs.length else c0)
      rw [if_neg z, List.getElem_append_right (Nat.le_refl _)]
      simp only [Nat.sub_self, List.getElem_cons_zero]
      exact hE _ _ _ _ _ _ (key l u k) (fun _ y => y) e0
theorem GL.ls (hE : EK E) (w : HW h) (g : GL E G bs h lo la arr xs cs) : LsA G bs h (Sv bs lo h.2.1) la xs ∧ ∀ i (hi : i < xs.length), E h (Sv bs lo h.2.1) xs[i] (cs i) := by
  obtain ⟨⟨g1, g2, g3⟩, g4, g5⟩ := g
  have h1 := g4.arr_lt w
  obtain ⟨_, _, _, _, o, -⟩ := id g4
  have h2 := w _ _ o
  refine ⟨⟨Or.inr ⟨g2, h2⟩, arr, ?_, g4⟩, fun i hi => ?_⟩
  · by_cases z : arr < bs
    · exact Or.inl z
    · exact Or.inr ⟨g3 (by omega), h1⟩
  · obtain ⟨l, u, q1, q2⟩ := g5 i hi
    refine hE _ _ _ _ _ _ SK.refl (fun z y => ?_) q1
    rcases y with y | y
    · exact Or.inl y
    · exact Or.inr ⟨by omega, by omega⟩
end
theorem ekPt : EK PtA := fun _ _ _ _ _ _ k s q => q.keep k s
section
variable {T f : Nat → Int32} {e len x bs : Nat} {at_ bg ft dp : Int32} {hi : Bool} {h h0 : am_H} {G : am_G}
/-- what a sum answers -/
def sumQ (T f : Nat → Int32) (G : am_G) (bs x len e : Nat) (ft dp : Int32) (a : Nat) (h0 : am_H) (res : RD Sm) (R : am_O) : Prop :=
  (∃ v h', R = .inl (some v, h') ∧ ∃ p tm a', res = .inr (tm, a') ∧ v = .ref p ∧ SmA G bs h' (Sv bs h0.2.1 h'.2.1) p tm ∧ h0.2.1 ≤ p ∧ a + 1 ≤ a' ∧ a' ≤ e ∧ (∃ bg, RS h' (x + 46) f len e (nI a') bg ft dp) ∧ HC (isR (x + 46)) (a' - a) h0 h') ∨
  (∃ c h', R = .inr (c, h') ∧ ∃ z, res = .inl z ∧ FT f (x + 46) len e ft z (e - a + 3) h0 c h')
theorem c_sumLoop (w0 : HW h0) (hbs : bs ≤ x) (hx0 : x + 47 < h0.2.1) (t : TX T f e) {a0 : Nat} : ∀ n k a h (sa la arr : Nat) (xs : List Nat) (ts : Nat → Sm) (s : Sm), e - a < n → xs.length = k → 2 * k + a0 ≤ a → a ≤ e → OG G bs h → h.1 x = some (.inr (0, xobj x hi)) → (∃ bg, RS h (x + 46) f len e (nI a) bg ft dp) → h0.2.1 ≤ sa → h.1 sa = some (.inr (13, [.ref la])) → sa < la → GL PtA G bs h h0.2.1 la arr xs ts → (∀ F, s F = smF (fun i => ts i F) k) → HF (isR (x + 46)) (10 * (a - a0) + 2 - 3 * k) (1600 * (a - a0) + 4 - 100 * k) h0 h →
    Wp G 11 mt_X1_sum 8 [.ref x, .ref sa] [] h (sumQ T f G bs x len e ft dp a0 h0 (rB (partF T e a) (fun tm a => suL T e n (fun F => s F + tm F) a)))
  | 0, _, _, _, _, _, _, _, _, _, hn, _, _, _, _, _, _, _, _, _, _, _, _ => absurd hn (by omega)
  | n + 1, k, a, h, sa, la, arr, xs, ts, s, hn, hk, hka, ha, og, hx, ⟨bg, q⟩, hsa, os, hsl, gl, hs, F => by
    have he := t.1
    have w := F.w
    refine r_aload_1 rfl ?_
    refine r_getf rfl os rfl ?_
    refine r_aload_0 rfl ?_
    refine r_invvT rfl rfl hx rfl rfl rfl (by decide) (c_onePart w og hbs hx t q ha) ?_ ?_
    · rintro v h1 ⟨p, tm, a1, e1, rfl, hp, hpn, ⟨fs, op⟩, ha1, hae, ⟨bg1, q1⟩, f1⟩
      rw [e1]
      have hz0 := F.z
      have w1 := f1.w
      have hz1 := f1.z
      have og1 := og.keep f1 (fun z y => by simp only [isR] at y; omega)
      have hx1 := f1.k hx (fun z => by simp only [isR] at z; omega)
      have gl1 := gl.item ekPt f1 (by omega) (by omega)
      have os1 := f1.k os (fun z => by simp only [isR] at z; omega)
      obtain ⟨⟨gb, gla, garr⟩, gal, -⟩ := id gl1
      obtain ⟨_, _, _, _, ol, -⟩ := id gal
      have hlaw := w _ _ (show h.1 la = _ from (gl.al).choose_spec.choose_spec.choose_spec.choose_spec.1)
      have harw := gl.al.arr_lt w
      refine r_invvE rfl rfl ol rfl rfl (by decide) (c_alAdd w1 og1 (by omega) gal (by omega) (by omega) op (by omega)) ?_
      rintro v h2 ⟨rfl, arr', k1, k2, k3, f2⟩
      have gl2 := gl1.add ekPt w1 hp ⟨by omega, Nat.le_refl _, by omega, Or.inl harw⟩ k1 k2 k3 f2
      have w2 := f2.w
      have nA : ∀ z, ALP bs la arr z → h0.2.1 ≤ z := fun z y => by rcases y with y | y <;> omega
      have og2 := og1.keep f2 (fun z y => by have := nA z y; omega)
      have hx2 := f2.k hx1 (fun z => by have := nA _ z; omega)
      have q2 := q1.keep f2 (fun z => by have := nA _ z; omega) (fun z => by have := nA _ z; omega)
      have nsa : ¬ ALP bs la arr sa := by
        rintro (z | z)
        · omega
        · obtain ⟨_, _, _, _, -, oz, -⟩ := id gal
          rw [← z.1, os1] at oz
          cases oz
      have os2 := f2.k os1 nsa
      have f02 : HF (isR (x + 46)) (10 * (a1 - a0) + 2 - 3 * (k + 1)) (1600 * (a1 - a0) + 4 - 100 * (k + 1)) h0 h2 := (HF.transN w0 (HF.trans F f1) f2 (fun z y => Or.inr (nA z y))).mono (fun _ z => z) (by omega) (by omega)
      refine r_pop rfl ?_
      refine r_aload_0 rfl ?_
      refine r_getf rfl hx2 rfl ?_
      refine r_push rfl ?_
      refine r_invvE rfl rfl q2.1 rfl rfl (by decide) (c_sign w2 t q2 hae ⟨43, by decide, rfl⟩ (by decide)) ?_
      rintro v h3 ⟨rfl, q3, f3⟩
      have hs3 := sk_le T hae
      have hg3 := sk_ge T e a1
      have f03 : HF (isR (x + 46)) (10 * (a1 - a0) + 2 - 3 * (k + 1)) (1600 * (a1 - a0) + 4 - 100 * (k + 1)) h0 h3 := (HF.trans f02 f3).mono (fun _ z => z) (by omega) (by omega)
      have gl3 := gl2.item ekPt f3 (by omega) (by omega)
      have os3 := f3.k os2 (fun z => by simp only [isR] at z; omega)
      have hs2 : ∀ F, (s F + tm F) = smF (fun i => (if i < xs.length then ts i else tm) F) (k + 1) := fun F => by
        rw [smF, hk, if_neg (by omega), hs F]
        congr 1
        exact smF_congr (fun i hi => by rw [if_pos (by omega)])
      refine r_ifne rfl (fun c => ?_) (fun c => ?_)
      · have c0 : sgF T e a1 43 = true := bI_n0.mp c
        have hlt : skF T e a1 < e := by
          unfold sgF at c0
          simp only [Bool.and_eq_true, decide_eq_true_eq] at c0
          exact c0.1
        rw [c0, if_pos rfl] at q3
        have e9 : rB (.inr (tm, a1)) (fun tm a => suL T e (n + 1) (fun F => s F + tm F) a) = rB (partF T e (skF T e a1 + 1)) (fun t a => suL T e n (fun F => (s F + tm F) + t F) a) := by
          show suL T e (n + 1) _ a1 = _
          rw [suL, if_pos c0]
        rw [e9]
        refine c_sumLoop w0 hbs hx0 t n (k + 1) (skF T e a1 + 1) h3 sa la arr' (xs ++ [p]) _ (fun F => s F + tm F) (by omega) (by rw [List.length_append, List.length_singleton, hk]) (by omega) (by omega) (og2.keep f3 (fun z y => by simp only [isR] at y; omega)) (f3.k hx2 (fun z => by simp only [isR] at z; omega)) ⟨_, q3⟩ hsa os3 hsl gl3 hs2 (f03.mono (fun _ z => z) (by omega) (by omega))
      · have c0 : sgF T e a1 43 = false := bI_0.mp c
        rw [c0] at q3
        have e9 : rB (.inr (tm, a1)) (fun tm a => suL T e (n + 1) (fun F => s F + tm F) a) = .inr (fun F => s F + tm F, skF T e a1) := by
          show suL T e (n + 1) _ a1 = _
          rw [suL, if_neg (by rw [c0]; decide)]
        rw [e9]
        have w3 := f3.w
        obtain ⟨g9, g10⟩ := gl3.ls ekPt w3
        refine r_aload_1 rfl ?_
        refine r_aret rfl ?_
        refine Or.inl ⟨_, _, rfl, sa, _, _, rfl, rfl, ⟨Or.inr ⟨hsa, w3 _ _ os3⟩, la, _, _, os3, g9, g10, fun F => ?_⟩, hsa, by omega, hs3, ⟨_, q3⟩, f03.mono (fun _ z => z) (by omega) (by omega)⟩
        rw [List.length_append, List.length_singleton, show xs.length + 1 = k + 1 by rw [hk]]
        exact hs2 F
    · rintro c h1 ⟨z, ez, p⟩
      rw [ez]
      exact Or.inr ⟨_, _, rfl, z, rfl, p.mono F (by omega) (by omega)⟩
theorem c_sum (w : HW h) (og : OG G bs h) (hbs : bs ≤ x) (hx : h.1 x = some (.inr (0, xobj x hi))) (t : TX T f e) {a : Nat} (q : RS h (x + 46) f len e (nI a) bg ft dp) (ha : a ≤ e) : Wc G 11 m_X1_sum [.ref x] h (sumQ T f G bs x len e ft dp a h (sumF T e a)) := by
  have he := t.1
  have hx47 : x + 47 < h.2.1 := w _ _ q.2
  have f1 := HF.new (n := 1) (e := .inr (13, [.null])) w
  have og1 := og.keep f1 (fun _ z => z.elim)
  refine wc_in mt_X1_sum rfl (L := [.ref x, am_un]) rfl ?_
  refine r_new rfl rfl ?_
  refine r_dupR rfl ?_
  refine r_inviF rfl rfl rfl (by decide) (c_sumInit f1.w og1 am_new_at) ?_
  rintro h1 ⟨o1, ⟨arr, hb, al⟩, f2⟩
  have f3 : HF (fun _ => False) 2 4 h h1 := HF.transN w f1 f2 (fun z y => Or.inr (Nat.le_of_eq y.symm))
  have q1 := q.keep f3 (fun z => z) (fun z => z)
  have hle : (am_new h (.inr (13, [.null])) 1).2.1 = h.2.1 + 1 := rfl
  refine r_astore_1 rfl ?_
  have z0 : ∀ tm : Sm, (fun F => (0 : Int32) + tm F) = tm := fun tm => by funext F; exact Int32.zero_add _
  have key := c_sumLoop (G := G) (hi := hi) (a0 := a) w hbs hx47 t (e + 1) 0 a h1 h.2.1 (h.2.1 + 1) arr [] (fun _ _ => 0) (fun _ => 0) (by omega) rfl (by omega) ha (og.keep f3 (fun _ z => z.elim)) (f3.k hx (fun z => z)) ⟨_, q1⟩ (Nat.le_refl _) o1 (Nat.lt_succ_self _) ⟨⟨by omega, by omega, fun z => absurd z (by omega)⟩, al, fun i hi => absurd hi (by simp)⟩ (fun _ => rfl) (f3.mono (fun _ z => z.elim) (by omega) (by omega))
  simp only [z0] at key
  exact key
end
