/-! PARSE: conditions -/
set_option maxRecDepth 100000
theorem ekCd {G : am_G} {bs n : Nat} : EK (fun h S a c => CdA G bs h S n a c) := fun _ _ _ _ _ _ k s q => CdA.keep k s q
theorem CdA.cell {G : am_G} {bs n a : Nat} {h : am_H} {S : Nat → Prop} {c : Cd} (q : CdA G bs h S n a c) : ∃ e, h.1 a = some (.inr e) := by
  cases n with
  | zero => exact q.elim
  | succ n =>
    obtain ⟨-, q⟩ := q
    rcases q with ⟨b, q1, -⟩ | ⟨x, y, s, t, q1, -⟩ | ⟨x, c', q1, -⟩ | ⟨all, la, xs, cs, q1, -⟩ <;> exact ⟨_, q1⟩
/-- what a condition answers -/
def condQ (T f : Nat → Int32) (G : am_G) (bs x len e : Nat) (ft dp : Int32) (K N a : Nat) (h0 : am_H) (res : RD Cd) (R : am_O) : Prop :=
  (∃ v h', R = .inl (some v, h') ∧ ∃ p c a', res = .inr (c, a') ∧ v = .ref p ∧ CdA G bs h' (Sv bs h0.2.1 h'.2.1) N p c ∧ h0.2.1 ≤ p ∧ a + 3 ≤ a' ∧ a' ≤ e ∧ (∃ bg, RS h' (x + 46) f len e (nI a') bg ft dp) ∧ HC (isR (x + 46)) (3 * (a' - a) + K - 1) h0 h') ∨
  (∃ c h', R = .inr (c, h') ∧ ∃ z, res = .inl z ∧ FT f (x + 46) len e ft z (3 * (e - a) + 8 + K / 2) h0 c h')
/-- a parser of conditions: its contract -/
def condC (T f : Nat → Int32) (G : am_G) (bs x len e : Nat) (hi : Bool) (ft dp : Int32) (K N d k : Nat) (it : Nat → RD Cd) : Prop := ∀ (h : am_H) (a : Nat) (bg : Int32), HW h → OG G bs h → h.1 x = some (.inr (0, xobj x hi)) → RS h (x + 46) f len e (nI a) bg ft dp → a ≤ e → Wc G d k [.ref x] h (condQ T f G bs x len e ft dp K N a h (it a))
section
variable {T f : Nat → Int32} {e len x bs : Nat} {at_ bg ft dp : Int32} {hi : Bool} {h h0 : am_H} {G : am_G}
theorem c_allOfLoop {KI NI d dI : Nat} {it : Nat → RD Cd} (hKI : KI ≤ 2) (hd : dI < d) (hd10 : 10 ≤ d) (IT : condC T f G bs x len e hi ft dp KI NI dI m_X1_atom it) (w0 : HW h0) (hbs : bs ≤ x) (hx0 : x + 47 < h0.2.1) (t : TX T f e) {a0 : Nat} : ∀ n k a h (ra la arr : Nat) (xs : List Nat) (cs : Nat → Cd) (c : Cd), e - a < n → xs.length = k → 3 * k + a0 ≤ a → a ≤ e → OG G bs h → h.1 x = some (.inr (0, xobj x hi)) → (∃ bg, RS h (x + 46) f len e (nI a) bg ft dp) → h0.2.1 ≤ ra → h.1 ra = some (.inr (10, [.int (bI true), .ref la])) → ra < la → GL (fun h S a c => CdA G bs h S NI a c) G bs h h0.2.1 la arr xs cs → (∀ F, c F = rwF true cs k F) → HF (isR (x + 46)) (30 * (a - a0) + 2) (4800 * (a - a0) + 5) h0 h →
    Wp G d mt_X1_allOf 9 [.ref x, .ref ra] [] h (condQ T f G bs x len e ft dp (KI + 2) (NI + 1) a0 h0 (rB (it a) (fun c' a => sqL T e w_and and it n (fun F => and (c F) (c' F)) a)))
  | 0, _, _, _, _, _, _, _, _, _, hn, _, _, _, _, _, _, _, _, _, _, _, _ => absurd hn (by omega)
  | n + 1, k, a, h, ra, la, arr, xs, cs, c, hn, hk, hka, ha, og, hx, ⟨bg, q⟩, hra, os, hsl, gl, hs, F => by
    have he := t.1
    have w := F.w
    refine r_aload_1 rfl ?_
    refine r_getf rfl os rfl ?_
    refine r_aload_0 rfl ?_
    refine r_k (nx := 17) (L' := [.ref x, .ref ra]) (rest := [.ref la]) rfl (am_invv_ok (n := 0) (As := []) rfl hx rfl rfl) hd (IT h a bg w og hx q ha) ?_
    rintro R (⟨v, h1, rfl, p, c1, a1, e1, rfl, hp, hpn, ha1, hae, ⟨bg1, q1⟩, f1⟩ | ⟨c9, h1, rfl, z, ez, p⟩)
    · rw [e1]
      show Wp G d mt_X1_allOf 17 _ (.ref p :: [.ref la]) h1 _
      have hz0 := F.z
      have w1 := f1.w
      have hz1 := f1.z
      have og1 := og.keep f1 (fun z y => by simp only [isR] at y; omega)
      have hx1 := f1.k hx (fun z => by simp only [isR] at z; omega)
      have gl1 := gl.item ekCd f1 (by omega) (by omega)
      have os1 := f1.k os (fun z => by simp only [isR] at z; omega)
      obtain ⟨⟨gb, gla, garr⟩, gal, -⟩ := id gl1
      obtain ⟨_, _, _, _, ol, -⟩ := id gal
      have hlaw := w _ _ (show h.1 la = _ from (gl.al).choose_spec.choose_spec.choose_spec.choose_spec.1)
      have harw := gl.al.arr_lt w
      obtain ⟨ce, op⟩ := hp.cell
      refine r_invvE rfl rfl ol rfl rfl (by omega) (c_alAdd w1 og1 (by omega) gal (by omega) (by omega) op (by omega)) ?_
      rintro v h2 ⟨rfl, arr', k1, k2, k3, f2⟩
      have gl2 := gl1.add ekCd w1 hp ⟨by omega, Nat.le_refl _, by omega, Or.inl harw⟩ k1 k2 k3 f2
      have w2 := f2.w
      have nA : ∀ z, ALP bs la arr z → h0.2.1 ≤ z := fun z y => by rcases y with y | y <;> omega
      have og2 := og1.keep f2 (fun z y => by have := nA z y; omega)
      have hx2 := f2.k hx1 (fun z => by have := nA _ z; omega)
      have q2 := q1.keep f2 (fun z => by have := nA _ z; omega) (fun z => by have := nA _ z; omega)
      have nsa : ¬ ALP bs la arr ra := by
        rintro (z | z)
        · omega
        · obtain ⟨_, _, _, _, -, oz, -⟩ := id gal
          rw [← z.1, os1] at oz
          cases oz
      have os2 := f2.k os1 nsa
      have f02 : HF (isR (x + 46)) (30 * (a1 - a0) + 10 * KI - 7) (4800 * (a1 - a0) + 1600 * KI - 995) h0 h2 := (HF.transN w0 (HF.trans F f1) f2 (fun z y => Or.inr (nA z y))).mono (fun _ z => z) (by omega) (by omega)
      obtain ⟨va, ga, sa⟩ := og2.s 18 w_and (by decide)
      refine r_pop rfl ?_
      refine r_aload_0 rfl ?_
      refine r_getf rfl hx2 rfl ?_
      refine r_globR rfl ga ?_
      refine r_invvE rfl rfl q2.1 rfl rfl (by omega) (c_passes w2 t q2 hae sa.sa (by have := sa.lt; omega)) ?_
      rintro v h3 ⟨rfl, q3, f3⟩
      have hs3 := sk_le T hae
      have hg3 := sk_ge T e a1
      have hb3 := wb_le T hae
      have f03 : HF (isR (x + 46)) (30 * (a1 - a0) + 10 * KI + 3) (4800 * (a1 - a0) + 1600 * KI + 605) h0 h3 := (HF.trans f02 f3).mono (fun _ z => z) (by omega) (by omega)
      have gl3 := gl2.item ekCd f3 (by omega) (by omega)
      have os3 := f3.k os2 (fun z => by simp only [isR] at z; omega)
      have hs2 : ∀ F, and (c F) (c1 F) = rwF true (fun i => if i < xs.length then cs i else c1) (k + 1) F := fun F => by
        have e0 : ∀ m, m ≤ k → rwF true (fun i => if i < xs.length then cs i else c1) m F = rwF true cs m F := by
          intro m
          induction m with
          | zero => intro _; rfl
          | succ m ih =>
            intro hm
            simp only [rwF]
            rw [ih (by omega), if_pos (show m < xs.length by omega)]
        have e1 : and (c F) (c1 F) = (if true = true then rwF true cs k F && c1 F else rwF true cs k F || c1 F) := by rw [hs F]; rfl
        rw [e1]
        simp only [rwF]
        rw [e0 k (Nat.le_refl _), if_neg (show ¬ k < xs.length by omega)]
      refine r_ifne rfl (fun c0 => ?_) (fun c0 => ?_)
      · have c0 : wdF T e a1 w_and = true := bI_n0.mp c0
        have hlen := wd_len c0
        have hl2 : w_and.length = 3 := rfl
        rw [c0, if_pos rfl] at q3
        have e9 : rB (.inr (c1, a1)) (fun c' a => sqL T e w_and and it (n + 1) (fun F => and (c F) (c' F)) a) = rB (it (wbF T e a1)) (fun c' a => sqL T e w_and and it n (fun F => and (and (c F) (c1 F)) (c' F)) a) := by
          show sqL T e w_and and it (n + 1) _ a1 = _
          rw [sqL, if_pos c0]
        rw [e9]
        exact c_allOfLoop hKI hd hd10 IT w0 hbs hx0 t n (k + 1) (wbF T e a1) h3 ra la arr' (xs ++ [p]) _ (fun F => and (c F) (c1 F)) (by omega) (by rw [List.length_append, List.length_singleton, hk]) (by omega) hb3 (og2.keep f3 (fun z y => by simp only [isR] at y; omega)) (f3.k hx2 (fun z => by simp only [isR] at z; omega)) ⟨_, q3⟩ hra os3 hsl gl3 hs2 (f03.mono (fun _ z => z) (by omega) (by omega))
      · have c0 : wdF T e a1 w_and = false := bI_0.mp c0
        rw [c0] at q3
        have e9 : rB (.inr (c1, a1)) (fun c' a => sqL T e w_and and it (n + 1) (fun F => and (c F) (c' F)) a) = .inr (fun F => and (c F) (c1 F), skF T e a1) := by
          show sqL T e w_and and it (n + 1) _ a1 = _
          rw [sqL, if_neg (by rw [c0]; decide)]
        rw [e9]
        have w3 := f3.w
        obtain ⟨g9, g10⟩ := gl3.ls ekCd w3
        refine r_aload_1 rfl ?_
        refine r_aret rfl ?_
        refine Or.inl ⟨_, _, rfl, ra, _, _, rfl, rfl, ⟨Or.inr ⟨hra, w3 _ _ os3⟩, Or.inr (Or.inr (Or.inr ⟨true, la, _, _, os3, g9, g10, fun F => ?_⟩))⟩, hra, by omega, hs3, ⟨_, q3⟩, f03.mono (fun _ z => z) (by omega) (by omega)⟩
        rw [List.length_append, List.length_singleton, show xs.length + 1 = k + 1 by rw [hk]]
        exact hs2 F
    · show condQ T f G bs x len e ft dp (KI + 2) (NI + 1) a0 h0 _ (.inr (c9, h1))
      rw [ez]
      exact Or.inr ⟨_, _, rfl, z, rfl, p.mono F (by omega) (by omega)⟩
theorem c_allOf {KI NI d dI : Nat} {it : Nat → RD Cd} (hKI : KI ≤ 2) (hd : dI < d) (hd10 : 10 ≤ d) (IT : condC T f G bs x len e hi ft dp KI NI dI m_X1_atom it) (hbs : bs ≤ x) (t : TX T f e) : condC T f G bs x len e hi ft dp (KI + 2) (NI + 1) d m_X1_allOf (fun a => rB (it a) fun c a => sqL T e w_and and it (e + 1) c a) := by
  intro h a bg w og hx q ha
  have he := t.1
  have hx47 : x + 47 < h.2.1 := w _ _ q.2
  have f1 := HF.new (n := 2) (e := .inr (10, [.int 0, .null])) w
  have og1 := og.keep f1 (fun _ z => z.elim)
  refine wc_in mt_X1_allOf rfl (L := [.ref x, am_un]) rfl ?_
  refine r_new rfl rfl ?_
  refine r_dupR rfl ?_
  refine r_push rfl ?_
  refine r_inviF rfl rfl rfl (by omega) (c_rowInit (b := true) f1.w og1 am_new_at) ?_
  rintro h1 ⟨o1, ⟨arr, hb, al⟩, f2⟩
  have f3 : HF (fun _ => False) 2 5 h h1 := HF.transN w f1 f2 (fun z y => Or.inr (Nat.le_of_eq y.symm))
  have q1 := q.keep f3 (fun z => z) (fun z => z)
  refine r_astore_1 rfl ?_
  have z0 : ∀ c : Cd, (fun F => and true (c F)) = c := fun c => by funext F; cases c F <;> rfl
  have key := c_allOfLoop (hi := hi) (a0 := a) hKI hd hd10 IT w hbs hx47 t (e + 1) 0 a h1 h.2.1 (h.2.1 + 1) arr [] (fun _ _ => true) (fun _ => true) (by omega) rfl (by omega) ha (og.keep f3 (fun _ z => z.elim)) (f3.k hx (fun z => z)) ⟨_, q1⟩ (Nat.le_refl _) o1 (Nat.lt_succ_self _) ⟨⟨by omega, by omega, fun z => absurd z (by omega)⟩, al, fun i hi => absurd hi (by simp)⟩ (fun _ => rfl) (f3.mono (fun _ z => z.elim) (by omega) (by omega))
  simp only [z0] at key
  exact key
theorem c_condLoop {KI NI d dI : Nat} {it : Nat → RD Cd} (hKI : KI ≤ 2) (hd : dI < d) (hd10 : 10 ≤ d) (IT : condC T f G bs x len e hi ft dp KI NI dI m_X1_allOf it) (w0 : HW h0) (hbs : bs ≤ x) (hx0 : x + 47 < h0.2.1) (t : TX T f e) {a0 : Nat} : ∀ n k a h (ra la arr : Nat) (xs : List Nat) (cs : Nat → Cd) (c : Cd), e - a < n → xs.length = k → 3 * k + a0 ≤ a → a ≤ e → OG G bs h → h.1 x = some (.inr (0, xobj x hi)) → (∃ bg, RS h (x + 46) f len e (nI a) bg ft dp) → h0.2.1 ≤ ra → h.1 ra = some (.inr (10, [.int (bI false), .ref la])) → ra < la → GL (fun h S a c => CdA G bs h S NI a c) G bs h h0.2.1 la arr xs cs → (∀ F, c F = rwF false cs k F) → HF (isR (x + 46)) (30 * (a - a0) + 2) (4800 * (a - a0) + 5) h0 h →
    Wp G d mt_X1_cond 9 [.ref x, .ref ra] [] h (condQ T f G bs x len e ft dp (KI + 2) (NI + 1) a0 h0 (rB (it a) (fun c' a => sqL T e w_or or it n (fun F => or (c F) (c' F)) a)))
  | 0, _, _, _, _, _, _, _, _, _, hn, _, _, _, _, _, _, _, _, _, _, _, _ => absurd hn (by omega)
  | n + 1, k, a, h, ra, la, arr, xs, cs, c, hn, hk, hka, ha, og, hx, ⟨bg, q⟩, hra, os, hsl, gl, hs, F => by
    have he := t.1
    have w := F.w
    refine r_aload_1 rfl ?_
    refine r_getf rfl os rfl ?_
    refine r_aload_0 rfl ?_
    refine r_k (nx := 17) (L' := [.ref x, .ref ra]) (rest := [.ref la]) rfl (am_invv_ok (n := 0) (As := []) rfl hx rfl rfl) hd (IT h a bg w og hx q ha) ?_
    rintro R (⟨v, h1, rfl, p, c1, a1, e1, rfl, hp, hpn, ha1, hae, ⟨bg1, q1⟩, f1⟩ | ⟨c9, h1, rfl, z, ez, p⟩)
    · rw [e1]
      show Wp G d mt_X1_cond 17 _ (.ref p :: [.ref la]) h1 _
      have hz0 := F.z
      have w1 := f1.w
      have hz1 := f1.z
      have og1 := og.keep f1 (fun z y => by simp only [isR] at y; omega)
      have hx1 := f1.k hx (fun z => by simp only [isR] at z; omega)
      have gl1 := gl.item ekCd f1 (by omega) (by omega)
      have os1 := f1.k os (fun z => by simp only [isR] at z; omega)
      obtain ⟨⟨gb, gla, garr⟩, gal, -⟩ := id gl1
      obtain ⟨_, _, _, _, ol, -⟩ := id gal
      have hlaw := w _ _ (show h.1 la = _ from (gl.al).choose_spec.choose_spec.choose_spec.choose_spec.1)
      have harw := gl.al.arr_lt w
      obtain ⟨ce, op⟩ := hp.cell
      refine r_invvE rfl rfl ol rfl rfl (by omega) (c_alAdd w1 og1 (by omega) gal (by omega) (by omega) op (by omega)) ?_
      rintro v h2 ⟨rfl, arr', k1, k2, k3, f2⟩
      have gl2 := gl1.add ekCd w1 hp ⟨by omega, Nat.le_refl _, by omega, Or.inl harw⟩ k1 k2 k3 f2
      have w2 := f2.w
      have nA : ∀ z, ALP bs la arr z → h0.2.1 ≤ z := fun z y => by rcases y with y | y <;> omega
      have og2 := og1.keep f2 (fun z y => by have := nA z y; omega)
      have hx2 := f2.k hx1 (fun z => by have := nA _ z; omega)
      have q2 := q1.keep f2 (fun z => by have := nA _ z; omega) (fun z => by have := nA _ z; omega)
      have nsa : ¬ ALP bs la arr ra := by
        rintro (z | z)
        · omega
        · obtain ⟨_, _, _, _, -, oz, -⟩ := id gal
          rw [← z.1, os1] at oz
          cases oz
      have os2 := f2.k os1 nsa
      have f02 : HF (isR (x + 46)) (30 * (a1 - a0) + 10 * KI - 7) (4800 * (a1 - a0) + 1600 * KI - 995) h0 h2 := (HF.transN w0 (HF.trans F f1) f2 (fun z y => Or.inr (nA z y))).mono (fun _ z => z) (by omega) (by omega)
      obtain ⟨va, ga, sa⟩ := og2.s 17 w_or (by decide)
      refine r_pop rfl ?_
      refine r_aload_0 rfl ?_
      refine r_getf rfl hx2 rfl ?_
      refine r_globR rfl ga ?_
      refine r_invvE rfl rfl q2.1 rfl rfl (by omega) (c_passes w2 t q2 hae sa.sa (by have := sa.lt; omega)) ?_
      rintro v h3 ⟨rfl, q3, f3⟩
      have hs3 := sk_le T hae
      have hg3 := sk_ge T e a1
      have hb3 := wb_le T hae
      have f03 : HF (isR (x + 46)) (30 * (a1 - a0) + 10 * KI + 3) (4800 * (a1 - a0) + 1600 * KI + 605) h0 h3 := (HF.trans f02 f3).mono (fun _ z => z) (by omega) (by omega)
      have gl3 := gl2.item ekCd f3 (by omega) (by omega)
      have os3 := f3.k os2 (fun z => by simp only [isR] at z; omega)
      have hs2 : ∀ F, or (c F) (c1 F) = rwF false (fun i => if i < xs.length then cs i else c1) (k + 1) F := fun F => by
        have e0 : ∀ m, m ≤ k → rwF false (fun i => if i < xs.length then cs i else c1) m F = rwF false cs m F := by
          intro m
          induction m with
          | zero => intro _; rfl
          | succ m ih =>
            intro hm
            simp only [rwF]
            rw [ih (by omega), if_pos (show m < xs.length by omega)]
        have e1 : or (c F) (c1 F) = (if false = true then rwF false cs k F && c1 F else rwF false cs k F || c1 F) := by rw [hs F]; rfl
        rw [e1]
        simp only [rwF]
        rw [e0 k (Nat.le_refl _), if_neg (show ¬ k < xs.length by omega)]
      refine r_ifne rfl (fun c0 => ?_) (fun c0 => ?_)
      · have c0 : wdF T e a1 w_or = true := bI_n0.mp c0
        have hlen := wd_len c0
        have hl2 : w_or.length = 2 := rfl
        rw [c0, if_pos rfl] at q3
        have e9 : rB (.inr (c1, a1)) (fun c' a => sqL T e w_or or it (n + 1) (fun F => or (c F) (c' F)) a) = rB (it (wbF T e a1)) (fun c' a => sqL T e w_or or it n (fun F => or (or (c F) (c1 F)) (c' F)) a) := by
          show sqL T e w_or or it (n + 1) _ a1 = _
          rw [sqL, if_pos c0]
        rw [e9]
        exact c_condLoop hKI hd hd10 IT w0 hbs hx0 t n (k + 1) (wbF T e a1) h3 ra la arr' (xs ++ [p]) _ (fun F => or (c F) (c1 F)) (by omega) (by rw [List.length_append, List.length_singleton, hk]) (by omega) hb3 (og2.keep f3 (fun z y => by simp only [isR] at y; omega)) (f3.k hx2 (fun z => by simp only [isR] at z; omega)) ⟨_, q3⟩ hra os3 hsl gl3 hs2 (f03.mono (fun _ z => z) (by omega) (by omega))
      · have c0 : wdF T e a1 w_or = false := bI_0.mp c0
        rw [c0] at q3
        have e9 : rB (.inr (c1, a1)) (fun c' a => sqL T e w_or or it (n + 1) (fun F => or (c F) (c' F)) a) = .inr (fun F => or (c F) (c1 F), skF T e a1) := by
          show sqL T e w_or or it (n + 1) _ a1 = _
          rw [sqL, if_neg (by rw [c0]; decide)]
        rw [e9]
        have w3 := f3.w
        obtain ⟨g9, g10⟩ := gl3.ls ekCd w3
        refine r_aload_1 rfl ?_
        refine r_aret rfl ?_
        refine Or.inl ⟨_, _, rfl, ra, _, _, rfl, rfl, ⟨Or.inr ⟨hra, w3 _ _ os3⟩, Or.inr (Or.inr (Or.inr ⟨false, la, _, _, os3, g9, g10, fun F => ?_⟩))⟩, hra, by omega, hs3, ⟨_, q3⟩, f03.mono (fun _ z => z) (by omega) (by omega)⟩
        rw [List.length_append, List.length_singleton, show xs.length + 1 = k + 1 by rw [hk]]
        exact hs2 F
    · show condQ T f G bs x len e ft dp (KI + 2) (NI + 1) a0 h0 _ (.inr (c9, h1))
      rw [ez]
      exact Or.inr ⟨_, _, rfl, z, rfl, p.mono F (by omega) (by omega)⟩
theorem c_cond {KI NI d dI : Nat} {it : Nat → RD Cd} (hKI : KI ≤ 2) (hd : dI < d) (hd10 : 10 ≤ d) (IT : condC T f G bs x len e hi ft dp KI NI dI m_X1_allOf it) (hbs : bs ≤ x) (t : TX T f e) : condC T f G bs x len e hi ft dp (KI + 2) (NI + 1) d m_X1_cond (fun a => rB (it a) fun c a => sqL T e w_or or it (e + 1) c a) := by
  intro h a bg w og hx q ha
  have he := t.1
  have hx47 : x + 47 < h.2.1 := w _ _ q.2
  have f1 := HF.new (n := 2) (e := .inr (10, [.int 0, .null])) w
  have og1 := og.keep f1 (fun _ z => z.elim)
  refine wc_in mt_X1_cond rfl (L := [.ref x, am_un]) rfl ?_
  refine r_new rfl rfl ?_
  refine r_dupR rfl ?_
  refine r_push rfl ?_
  refine r_inviF rfl rfl rfl (by omega) (c_rowInit (b := false) f1.w og1 am_new_at) ?_
  rintro h1 ⟨o1, ⟨arr, hb, al⟩, f2⟩
  have f3 : HF (fun _ => False) 2 5 h h1 := HF.transN w f1 f2 (fun z y => Or.inr (Nat.le_of_eq y.symm))
  have q1 := q.keep f3 (fun z => z) (fun z => z)
  refine r_astore_1 rfl ?_
  have z0 : ∀ c : Cd, (fun F => or false (c F)) = c := fun c => by funext F; cases c F <;> rfl
  have key := c_condLoop (hi := hi) (a0 := a) hKI hd hd10 IT w hbs hx47 t (e + 1) 0 a h1 h.2.1 (h.2.1 + 1) arr [] (fun _ _ => false) (fun _ => false) (by omega) rfl (by omega) ha (og.keep f3 (fun _ z => z.elim)) (f3.k hx (fun z => z)) ⟨_, q1⟩ (Nat.le_refl _) o1 (Nat.lt_succ_self _) ⟨⟨by omega, by omega, fun z => absurd z (by omega)⟩, al, fun i hi => absurd hi (by simp)⟩ (fun _ => rfl) (f3.mono (fun _ z => z.elim) (by omega) (by omega))
  simp only [z0] at key
  exact key
end
