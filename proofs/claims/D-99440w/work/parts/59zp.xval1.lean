/-! THE VALLEY'S TEXT: the system reads what is wanted; a person -/
set_option maxRecDepth 100000
/-- what a text of the valley writes -/
def VP (x : Nat) : Nat → Prop := fun a => isR (x + 46) a ∨ InW (x + 16) a
/-- a fault in a text of the valley -/
def VF (f : Nat → Int32) (x len e : Nat) (ft : Int32) (z n : Nat) (h0 : am_H) : Nat → am_H → Prop := fun c h' => c = 17 ∧ (∃ at_ dp, RS h' (x + 46) f len e at_ (nI z) ft dp) ∧ (∃ mt bt lt, WA h' (x + 16) mt bt lt) ∧ HC (VP x) n h0 h'
/-- a row that a line of the valley leaves -/
def RO (m m' : Nat → Int32) : Prop := VR m' ∧ LB m' ∧ m' 0 = m 0 ∧ m' 1 = m 1 ∧ m' 2 = m 2 ∧ ∀ k, 129 ≤ k → m' k = m k
theorem num_in {T : Nat → Int32} {e a k : Nat} {lo hi n : Int32} (z : numF T e lo hi a = .inr (n, k)) : inF n lo hi = true := by
  unfold numF nbF at z
  split at z
  · cases z
  · rename_i hn
    cases z
    cases c : inF (nuF T (skF T e a) (fgF T e (skF T e a) - skF T e a)) lo hi with
    | true => rfl
    | false => exact absurd (Or.inr c) hn
theorem isB.up {v : Int32} {n k : Nat} (q : isB v n) (h : n ≤ k) : isB v k := by
  obtain ⟨i, hi, rfl⟩ := q
  exact ⟨i, by omega, rfl⟩
/-- a row with one person more -/
theorem VR.moreP {m m' : Nat → Int32} (v : VR m) {p : Nat} (ep : nP m = p) (hp : p < 6) (e : ∀ k, k < 33 + 6 * p ∨ 39 + 6 * p ≤ k → k ≠ 3 → m' k = m k) (e3 : m' 3 = nI (p + 1)) (h : isB (m' (35 + 6 * p)) 12 ∧ isB (m' (36 + 6 * p)) 12 ∧ isB (m' (38 + 6 * p)) 2) : VR m' := by
  have e4 := e 4 (by omega) (by omega)
  have eS : nS m' = nS m := by unfold nS; rw [e4]
  have eP : nP m' = p + 1 := by unfold nP; rw [e3]; exact nI_clamp (by omega)
  have eL : nL m' = nL m := by unfold nL; rw [e 7 (by omega) (by omega)]
  obtain ⟨⟨v1, v2, v3⟩, ⟨v4, v5⟩, v6, v7, v8⟩ := v
  have h10 := v2.2
  refine ⟨⟨by rw [e3, eP]; exact ⟨rfl, by omega⟩, by rw [e4, eS]; exact v2, by rw [e 7 (by omega) (by omega), eL]; exact v3⟩, ⟨by rw [e 0 (by omega) (by omega)]; exact v4, by rw [e 1 (by omega) (by omega)]; exact v5⟩, fun q hq => ?_, fun r hr => ?_, fun s hs => ?_⟩
  · rw [e (9 + q) (by omega) (by omega), e (21 + q) (by omega) (by omega)]; exact v6 q hq
  · rw [eP] at hr
    by_cases c : r = p
    · subst c; exact h
    · rw [e (35 + 6 * r) (by omega) (by omega), e (36 + 6 * r) (by omega) (by omega), e (38 + 6 * r) (by omega) (by omega)]
      exact v7 r (by omega)
  · rw [eS] at hs
    obtain ⟨w1, w2, w3, w4, w5, w6⟩ := v8 s hs
    rw [eP, e (69 + 6 * s) (by omega) (by omega), e (70 + 6 * s) (by omega) (by omega), e (71 + 6 * s) (by omega) (by omega), e (72 + 6 * s) (by omega) (by omega), e (73 + 6 * s) (by omega) (by omega), e (74 + 6 * s) (by omega) (by omega)]
    exact ⟨w1.up (by omega), w2.up (by omega), w3, w4, fun z => (w5 z).up (by omega), w6⟩
theorem pm_at {m : Nat → Int32} {p : Nat} (e3 : m 3 = nI p) (hp : p < 6) {bk wh gl pu : Int32} : (∀ k, k < 33 + 6 * p ∨ 39 + 6 * p ≤ k → k ≠ 3 → pm m (m 3) bk wh gl pu k = m k) ∧ pm m (m 3) bk wh gl pu 3 = nI (p + 1) ∧ pm m (m 3) bk wh gl pu (34 + 6 * p) = bk ∧ pm m (m 3) bk wh gl pu (35 + 6 * p) = wh ∧ pm m (m 3) bk wh gl pu (36 + 6 * p) = gl ∧ pm m (m 3) bk wh gl pu (38 + 6 * p) = 0 := by
  have ec : (m 3).toNatClampNeg = p := by rw [e3]; exact nI_clamp (by omega)
  unfold pm
  rw [ec]
  refine ⟨fun k hk h3 => ?_, by rw [upd_eq, e3, nI_1], ?_, ?_, ?_, ?_⟩
  · rw [upd_ne h3, upd_ne (by omega), upd_ne (by omega), upd_ne (by omega), upd_ne (by omega), upd_ne (by omega), upd_ne (by omega)]
  · rw [upd_ne (by omega), upd_ne (by omega), upd_ne (by omega), upd_ne (by omega), upd_ne (by omega), upd_eq]
  · rw [upd_ne (by omega), upd_ne (by omega), upd_ne (by omega), upd_ne (by omega), upd_eq]
  · rw [upd_ne (by omega), upd_ne (by omega), upd_ne (by omega), upd_eq]
  · rw [upd_ne (by omega), upd_eq]
theorem in_pos {v lo hi : Int32} (h : inF v lo hi = true) (h0 : 0 ≤ lo) : 0 ≤ v := by
  have hh : lo ≤ v ∧ v ≤ hi := by simpa [inF] using h
  exact Int32.le_trans h0 hh.1
theorem pm_ok {m : Nat → Int32} (v : VR m) (lb : LB m) (hp : nP m < 6) {bk wh gl pu : Int32} (h1 : inF bk 1 60 = true) (h2 : inF wh 0 11 = true) (h3 : inF gl 0 11 = true) : RO m (pm m (m 3) bk wh gl pu) ∧ ∀ b, BY b m → BY b (pm m (m 3) bk wh gl pu) := by
  have e3 := v.pp.1
  obtain ⟨z1, z2, z3, z4, z5, z6⟩ := pm_at e3 hp (bk := bk) (wh := wh) (gl := gl) (pu := pu)
  have b2 : isB wh 12 := by obtain ⟨i, hi, rfl⟩ := inF_nI (n := 12) (by decide) h2; exact ⟨i, hi, rfl⟩
  have b3 : isB gl 12 := by obtain ⟨i, hi, rfl⟩ := inF_nI (n := 12) (by decide) h3; exact ⟨i, hi, rfl⟩
  generalize pm m (m 3) bk wh gl pu = m' at *
  have eP : nP m' = nP m + 1 := by unfold nP; rw [z2]; exact nI_clamp (by omega)
  refine ⟨⟨v.moreP rfl hp z1 z2 ⟨by rw [z4]; exact b2, by rw [z5]; exact b3, by rw [z6]; exact ⟨0, by decide, rfl⟩⟩, ⟨by rw [z1 6 (by omega) (by omega)]; exact lb.1, fun r hr => ?_⟩, z1 0 (by omega) (by omega), z1 1 (by omega) (by omega), z1 2 (by omega) (by omega), fun k hk => z1 k (by omega) (by omega)⟩, fun b y => y.same (fun k h4 h5 => z1 k (by omega) (by omega)) (by unfold nS; rw [z1 4 (by omega) (by omega)]) v.ss.2⟩
  rw [eP] at hr
  by_cases c : r = nP m
  · rw [c, z3]; exact in_pos h1 (by decide)
  · rw [z1 _ (by omega) (by omega)]; exact lb.2 r (by omega)
section
variable {T f : Nat → Int32} {e len x bs : Nat} {at_ bg ft dp : Int32} {hi : Bool} {h h0 : am_H} {G : am_G} {m b : Nat → Int32} {l : Value}
theorem FT.vf {mt bt : Nat → Int32} {lt : Value} {q n k : Nat} {c c9 s9 : Nat} {h' : am_H} (p : FT f (x + 46) len e ft q n h c h') (wa : WA h (x + 16) mt bt lt) (g : HF (VP x) c9 s9 h0 h) (h1 : c9 + 10 * n ≤ 10 * k) (h2 : s9 + 1600 * n ≤ 1600 * k) : VF f x len e ft q k h0 c h' := ⟨p.1, p.2.1, ⟨mt, bt, lt, wa.keep p.2.2 (fun a z => by unfold isR at z; omega)⟩, (HF.trans g (p.2.2.mono (fun a z => Or.inl z) (Nat.le_refl _) (Nat.le_refl _))).mono (fun _ z => z) h1 h2⟩
theorem gsa {k v : Nat} {w : List Int32} (og : OG G bs h) (hk : (k, w) ∈ gsL) (gv : G k = .ref v) : SA h v w ∧ v < bs := by
  obtain ⟨v', gv', sv⟩ := og.s k w hk
  rw [gv] at gv'
  cases gv'
  exact ⟨sv.sa, sv.lt⟩
theorem c_needs (w : HW h) (og : OG G bs h) (hbs : bs ≤ x) (hx : h.1 x = some (.inr (0, xobj x hi))) (t : TX T f e) {a : Nat} (q : RS h (x + 46) f len e (nI a) bg ft dp) (ha : a ≤ e) {k v : Nat} {ws : List Int32} (hk : (k, ws) ∈ gsL) (gv : G k = .ref v) : Etn G 10 m_X1_needs [.ref x, .ref v] h (fun h' => wdF T e a ws = true ∧ RS h' (x + 46) f len e (nI (wbF T e a)) (nI (skF T e a)) ft dp ∧ HC (isR (x + 46)) 1 h h') (fun c h' => wdF T e a ws = false ∧ FT f (x + 46) len e ft (skF T e a) 2 h c h') := by
  have gt := og.gt
  refine wc_in mt_X1_needs rfl (L := [.ref x, .ref v]) rfl ?_
  refine r_aload_0 rfl ?_
  refine r_getf rfl hx rfl ?_
  refine r_invvE rfl rfl q.1 rfl rfl (by decide) (c_word w t q ha) ?_
  rintro v1 h1 ⟨s, rfl, hs2, hS, q1, f1⟩
  have hx1 := f1.k hx (fun z => by simp only [isR] at z; omega)
  have og1 := og.keep f1 (fun z y => by simp only [isR] at y; omega)
  have sv := (gsa og1 hk gv).1
  obtain ⟨_, _, oS, -⟩ := id hS
  refine r_aload_1 rfl ?_
  refine r_invvP_1 rfl oS rfl rfl (by decide) (c_equals hS.sa sv) ?_
  cases c : wdF T e a ws with
  | true =>
    have e1 : bI (decide (subF T (skF T e a) (wbF T e a - skF T e a) = ws)) = bI true := congrArg bI c
    rw [e1]
    refine r_ifneT rfl (by decide) ?_
    refine r_vret rfl ?_
    exact Or.inl ⟨_, rfl, rfl, q1, f1⟩
  | false =>
    have e1 : bI (decide (subF T (skF T e a) (wbF T e a - skF T e a) = ws)) = bI false := congrArg bI c
    rw [e1]
    refine r_ifneF rfl rfl ?_
    refine r_aload_0 rfl ?_
    refine r_getf rfl hx1 rfl ?_
    refine r_invvE rfl rfl q1.1 rfl rfl (by decide) (c_wrong (P := fun _ => False) gt f1.w) ?_
    rintro v h3 ⟨rfl, ⟨fs, o3⟩, f3⟩
    refine r_athrow rfl o3 rfl rfl ?_
    exact Or.inr ⟨_, _, rfl, rfl, rfl, ⟨_, _, q1.keep f3 (fun z => z) (fun z => z)⟩, (HF.trans f1 (f3.mono (fun _ z => z.elim) (Nat.le_refl _) (Nat.le_refl _))).mono (fun _ z => z) (by decide) (by decide)⟩
/-- a number behind a word -/
def aftP (T f : Nat → Int32) (x len e : Nat) (ft dp lo hi : Int32) (ws : List Int32) (a : Nat) (h0 : am_H) : Value → am_H → Prop := fun v h' => ∃ n k, afterF T e ws lo hi a = .inr (n, k) ∧ v = .int n ∧ a + ws.length + 1 ≤ k ∧ k ≤ e ∧ inF n lo hi = true ∧ (∃ bg, RS h' (x + 46) f len e (nI k) bg ft dp ∧ bg = nI (skF T e (wbF T e a))) ∧ HC (isR (x + 46)) 1 h0 h'
theorem c_after (w : HW h) (og : OG G bs h) (hbs : bs ≤ x) (hx : h.1 x = some (.inr (0, xobj x hi))) (t : TX T f e) {a : Nat} (q : RS h (x + 46) f len e (nI a) bg ft dp) (ha : a ≤ e) {k v : Nat} {ws : List Int32} (hk : (k, ws) ∈ gsL) (gv : G k = .ref v) {lo hi' : Int32} : Et G 11 m_X1_after [.ref x, .ref v, .int lo, .int hi'] h (aftP T f x len e ft dp lo hi' ws a h) (fun c h' => ∃ z, afterF T e ws lo hi' a = .inl z ∧ FT f (x + 46) len e ft z 2 h c h') := by
  have gt := og.gt
  have hb := wb_le T ha
  have hsg := sk_ge T e a
  refine wc_in mt_X1_after rfl (L := [.ref x, .ref v, .int lo, .int hi']) rfl ?_
  refine r_aload_0 rfl ?_
  refine r_aload_1 rfl ?_
  refine r_invvS rfl rfl hx rfl rfl rfl (by decide) (c_needs w og hbs hx t q ha hk gv) ?_ ?_
  · rintro h1 ⟨wd, q1, f1⟩
    have hx1 := f1.k hx (fun z => by simp only [isR] at z; omega)
    have wl := wd_len wd
    have ea : afterF T e ws lo hi' a = numF T e lo hi' (wbF T e a) := by unfold afterF wantF; rw [if_pos wd]; rfl
    refine r_aload_0 rfl ?_
    refine r_getf rfl hx1 rfl ?_
    refine r_iload_2 rfl ?_
    refine r_iload_3 rfl ?_
    refine r_invvT rfl rfl q1.1 rfl rfl rfl (by decide) (c_number gt f1.w t q1 hb) ?_ ?_
    · rintro v2 h2 ⟨n, k2, en, rfl, hk2, q2, f2⟩
      have := num_lt en
      refine r_iret rfl ?_
      exact Or.inl ⟨_, _, rfl, n, k2, ea.trans en, rfl, by omega, hk2, num_in en, ⟨_, q2, rfl⟩, (HF.trans f1 f2).mono (fun _ z => z) (by decide) (by decide)⟩
    · rintro c h2 ⟨en, p2⟩
      exact Or.inr ⟨_, _, rfl, _, ea.trans en, p2.mono f1 (by decide) (by decide)⟩
  · rintro c h1 ⟨wd, p1⟩
    have ea : afterF T e ws lo hi' a = .inl (skF T e a) := by unfold afterF wantF; rw [if_neg (by rw [wd]; decide)]; rfl
    exact Or.inr ⟨_, _, rfl, _, ea, p1⟩
theorem c_placeTold (gt : GT G) (w : HW h) (hx : h.1 x = some (.inr (0, xobj x hi))) (t : TX T f e) {a : Nat} (q : RS h (x + 46) f len e (nI a) bg ft dp) (ha : a ≤ e) : Et G 6 m_X1_placeTold [.ref x] h (numP T f (x + 46) len e ft dp 0 11 a h) (fun c h' => numF T e 0 11 a = .inl (skF T e a) ∧ FT f (x + 46) len e ft (skF T e a) 1 h c h') := by
  refine wc_in mt_X1_placeTold rfl (L := [.ref x]) rfl ?_
  refine r_aload_0 rfl ?_
  refine r_getf rfl hx rfl ?_
  refine r_push rfl ?_
  refine r_push rfl ?_
  refine r_invvT rfl rfl q.1 rfl rfl rfl (by decide) (c_number gt w t q ha) ?_ ?_
  · rintro v2 h2 ⟨n, k2, en, rfl, r⟩
    refine r_iret rfl ?_
    exact Or.inl ⟨_, _, rfl, n, k2, en, rfl, r⟩
  · rintro c h2 p
    exact Or.inr ⟨_, _, rfl, p⟩
end
