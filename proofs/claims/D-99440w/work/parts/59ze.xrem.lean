/-! THE SYSTEM: what it remembers -/
set_option maxRecDepth 100000
/-- a row that can be remembered ahead of the row m -/
def MR (m p : Nat → Int32) : Prop := VR p ∧ LB p ∧ p 1 = m 1 ∧ p 2 = m 2 ∧ ∀ k, 369 ≤ k → p k = m k
/-- a remembered world -/
def WE (x : Nat) (S : Nat → Prop) (h : am_H) (l : Value) (m : Nat → Int32) (arr : Nat) (p : Nat × (Nat → Int32)) : Prop := x + 98 ≤ p.1 ∧ (p.1 + 15 ≤ arr ∨ arr < p.1) ∧ (∀ z, S z → ¬ InW p.1 z) ∧ (∃ b, WA h p.1 p.2 b l ∧ BY b p.2) ∧ MR m p.2
/-- the remembered worlds -/
def WB (G : am_G) (bs x : Nat) (S : Nat → Prop) (h : am_H) (l : Value) (m : Nat → Int32) (ws : List (Nat × (Nat → Int32))) : Prop := ∃ arr, AL G bs h (x + 64) arr (ws.map Prod.fst) ∧ ws.length ≤ 12 ∧ ((x + 98 ≤ arr ∧ ¬ S arr) ∨ arr < bs) ∧ (∀ p, p ∈ ws → WE x S h l m arr p) ∧ ws.Pairwise (fun p q => p.1 + 15 ≤ q.1 ∨ q.1 + 15 ≤ p.1)
def remW (ws : List (Nat × (Nat → Int32))) : List (Nat × (Nat → Int32)) := if ws.length = 12 then ws.tail else ws
/-- what remembering writes -/
def RP (x : Nat) (S : Nat → Prop) : Nat → Prop := fun a => a = x + 64 ∨ (x + 98 ≤ a ∧ ¬ S a)
/-- where law's objects lie -/
def SG (bs x : Nat) (S : Nat → Prop) (h : am_H) : Prop := ∀ z, S z → (z < bs ∨ x + 98 ≤ z) ∧ z < h.2.1
section
variable {G : am_G} {bs x w : Nat} {S : Nat → Prop} {hi : Bool} {h h' : am_H} {m m' b b' mt bt : Nat → Int32} {l lt : Value} {ws : List (Nat × (Nat → Int32))}
theorem HS.kp (q : HS G bs x w S hi h m b l) {P : Nat → Prop} {c s : Nat} (f : HF P c s h h') (hp : ∀ a, P a → bs ≤ a ∧ ¬ InW w a ∧ a ≠ x ∧ a ≠ x + 48 ∧ ¬ S a) : HS G bs x w S hi h' m b l := by
  obtain ⟨q1, q2, q3, q4, q5, q6, q7, s0, q8⟩ := q
  refine ⟨q1.keep f (fun a z => ?_), q2, q3, q4.keep (f.sk (fun a z y => (hp a y).2.2.2.2 z)) rfl rfl (fun _ _ => rfl), f.w, q6.keep f (fun a z => (hp a z).1), f.k q7 (fun z => (hp _ z).2.2.1 rfl), s0, f.k q8 (fun z => (hp _ z).2.2.2.1 rfl)⟩
  have := (hp a z).2.1
  unfold InW at this
  omega
theorem HS.wb (q : HS G bs x w S hi h m b l) (g : GEO bs x w S) (f : HF (InW w) 0 0 h h') (wa : WA h' w m' b' l) (v : VR m') (y : BY b' m') (h1 : m' 1 = m 1) (h2 : m' 2 = m 2) (ht : ∀ k, 369 ≤ k → m' k = m k) : HS G bs x w S hi h' m' b' l := q.step g (f.mono (fun a z => Or.inl z) (Nat.le_refl _) (Nat.le_refl _)) wa v y h1 h2 ht (by
  obtain ⟨-, -, -, -, -, -, -, s, q8⟩ := q
  refine ⟨s, f.k q8 (fun z => ?_)⟩
  have := g.2.2.1
  unfold InW at z
  omega)
theorem geo (gx : bs ≤ x) (sg : SG bs x S h) (hw : (x + 1 ≤ w ∧ w + 15 ≤ x + 48) ∨ (x + 48 < w ∧ w + 15 ≤ x + 98)) : GEO bs x w S := ⟨gx, by omega, by omega, fun z sz q => by
  have := (sg z sz).1
  rcases q with q | q
  · unfold InW at q; omega
  · omega⟩
theorem MR.refl (v : VR m) (lb : LB m) : MR m m := ⟨v, lb, rfl, rfl, fun _ _ => rfl⟩
theorem WB.kp (q : WB G bs x S h l m ws) {P : Nat → Prop} {c s : Nat} (f : HF P c s h h') (hp : ∀ a, P a → bs ≤ a ∧ a ≠ x + 64 ∧ a < x + 98) : WB G bs x S h' l m ws := by
  obtain ⟨arr, q1, q2, q3, q4, q5⟩ := q
  refine ⟨arr, q1.keep f (fun z => (hp _ z).2.1 rfl) (fun z => by have := hp _ z; omega), q2, q3, fun p hp' => ?_, q5⟩
  obtain ⟨w1, w2, w3, ⟨b, w4, w5⟩, w6⟩ := q4 p hp'
  exact ⟨w1, w2, w3, ⟨b, w4.keep f (fun a z => by have := hp a z; omega), w5⟩, w6⟩
theorem WB.ag (q : WB G bs x S h l m ws) (h1 : m' 1 = m 1) (h2 : m' 2 = m 2) (ht : ∀ k, 369 ≤ k → m' k = m k) : WB G bs x S h l m' ws := by
  obtain ⟨arr, q1, q2, q3, q4, q5⟩ := q
  refine ⟨arr, q1, q2, q3, fun p hp' => ?_, q5⟩
  obtain ⟨w1, w2, w3, w4, w5, w6, w7, w8, w9⟩ := q4 p hp'
  exact ⟨w1, w2, w3, w4, w5, w6, w7.trans h1.symm, w8.trans h2.symm, fun k hk => (w9 k hk).trans (ht k hk).symm⟩
theorem c_xRem (q : HS G bs x (x + 1) S hi h m b l) (gx : bs ≤ x) (sg : SG bs x S h) (hn : x + 98 ≤ h.2.1) (wb : WB G bs x S h l m ws) (lb : LB m) : En G 9 m_X1_remembers [.ref x] h (fun h' => ∃ a, HS G bs x (x + 1) S hi h' m b l ∧ WB G bs x S h' l m (remW ws ++ [(a, m)]) ∧ HF (RP x S) 20 1600 h h') := by
  have Q := q
  obtain ⟨q1, q2, q3, q4, q5, q6, q7, s0, q8⟩ := q
  obtain ⟨arr, e1, e2, e3, e4, e5⟩ := wb
  have E1 := e1
  obtain ⟨mc, t, cap, f, oA, -⟩ := E1
  have lenW : (ws.map Prod.fst).length = ws.length := List.length_map _
  refine wc_in mt_X1_remembers rfl (L := [.ref x, am_un]) rfl ?_
  have fin : ∀ (h1 : am_H) (a : Nat) (us : List (Nat × (Nat → Int32))) (mt bt : Nat → Int32) (lt : Value), HF (RP x S) 16 500 h h1 → AL G bs h1 (x + 64) arr (us.map Prod.fst) → us.length ≤ 11 → (∀ p, p ∈ us → WE x S h1 l m arr p ∧ (p.1 + 15 ≤ a ∨ a + 15 ≤ p.1)) → us.Pairwise (fun p q => p.1 + 15 ≤ q.1 ∨ q.1 + 15 ≤ p.1) → x + 98 ≤ a → (a + 15 ≤ arr ∨ arr < a) → (∀ z, S z → ¬ InW a z) → WA h1 a mt bt lt → remW ws = us → Wp G 9 mt_X1_remembers 33 [.ref x, am_un] [.ref a] h1 (fun R => ∃ h', R = .inl (none, h') ∧ ∃ a, HS G bs x (x + 1) S hi h' m b l ∧ WB G bs x S h' l m (remW ws ++ [(a, m)]) ∧ HF (RP x S) 20 1600 h h') := by
    intro h1 a us mt bt lt F1 A1 l1 we pw ha harr hS wa er
    have P1 : ∀ z, RP x S z → bs ≤ z ∧ ¬ InW (x + 1) z ∧ z ≠ x ∧ z ≠ x + 48 ∧ ¬ S z := fun z hz => by
      have sgz := sg z
      unfold InW
      rcases hz with hz | ⟨hz, hs⟩
      · exact ⟨by omega, by omega, by omega, by omega, fun y => by have := sgz y; omega⟩
      · exact ⟨by omega, by omega, by omega, by omega, hs⟩
    have Q1 := Q.kp F1 P1
    obtain ⟨k1, -, -, k4, k5, k6, k7, -⟩ := Q1
    have A1' := A1
    obtain ⟨mc1, t1, cap1, f1, oA1, -⟩ := A1'
    refine r_astore_1 rfl ?_
    refine r_aload_0 rfl ?_
    refine r_getf rfl k7 rfl ?_
    refine r_aload_1 rfl ?_
    refine r_aload_0 rfl ?_
    refine r_getf rfl k7 rfl ?_
    refine r_invvE rfl rfl (wa_o wa) rfl rfl (by decide) (c_likens wa k1 k5 (by omega) k4.v) ?_
    rintro v2 h2 ⟨rfl, wa2, F2⟩
    have A2 : AL G bs h2 (x + 64) arr (us.map Prod.fst) := A1.keep F2 (fun z => by unfold InW at z; omega) (fun z => by unfold InW at z; omega)
    have O2 : OG G bs h2 := k6.keep F2 (fun z hz => by unfold InW at hz; omega)
    have A2' := A2
    obtain ⟨mc2, t2, cap2, f2, oA2, -⟩ := A2'
    have lenU : (us.map Prod.fst).length = us.length := List.length_map _
    refine r_invvE rfl rfl oA2 rfl rfl (by decide) (c_alAdd F2.w O2 (by have := F1.z; have := F2.z; omega) A2 (by omega) (by omega) (wa_o wa2) (by omega)) ?_
    rintro v3 h3 ⟨rfl, arr', ea, hb', A3, F3⟩
    refine r_pop rfl ?_
    refine r_vret rfl ?_
    have F12 : HF (RP x S) 16 500 h h2 := (HF.trans F1 (F2.mono (fun z hz => Or.inr ⟨by unfold InW at hz; omega, fun y => hS z y hz⟩) (Nat.le_refl _) (Nat.le_refl _))).mono (fun _ z => z) (by omega) (by omega)
    have hF3 : ∀ z, ALP bs (x + 64) arr z → RP x S z := fun z hz => by
      rcases hz with hz | ⟨hz, hy⟩
      · exact Or.inl hz
      · rcases e3 with e3 | e3
        · exact Or.inr ⟨by omega, by rw [hz]; exact e3.2⟩
        · omega
    have F13 : HF (RP x S) 17 1100 h h3 := (HF.trans F12 (F3.mono hF3 (Nat.le_refl _) (Nat.le_refl _))).mono (fun _ z => z) (by omega) (by omega)
    have top : ∀ (p : Nat × (Nat → Int32)) (b2 : Nat → Int32) (l2 : Value), WA h2 p.1 p.2 b2 l2 → x + 98 ≤ p.1 → (p.1 + 15 ≤ arr ∨ arr < p.1) → WA h3 p.1 p.2 b2 l2 ∧ (p.1 + 15 ≤ arr' ∨ arr' < p.1) := fun p b2 l2 wp hx hy => by
      refine ⟨wp.keep F3 (fun z hz => ?_), ?_⟩
      · rcases hz with hz | ⟨hz, -⟩ <;> omega
      · rcases ea with ea | ea
        · omega
        · have := F2.w _ _ (wp 14 (by decide))
          omega
    refine ⟨_, rfl, a, Q.kp F13 P1, ?_, F13.mono (fun _ z => z) (by omega) (by omega)⟩
    refine ⟨arr', ?_, ?_, ?_, fun p hp => ?_, ?_⟩
    · rw [er, List.map_append]; exact A3
    · rw [er, List.length_append]; show us.length + 1 ≤ 12; omega
    · rcases ea with ea | ea
      · rw [ea]; exact e3
      · refine Or.inl ⟨by have := F1.z; have := F2.z; omega, fun z => ?_⟩
        have := (sg _ z).2
        have := F1.z; have := F2.z
        omega
    · rw [er] at hp
      rcases List.mem_append.mp hp with hp | hp
      · obtain ⟨⟨w1, w2, w3, ⟨b2, w4, w5⟩, w6⟩, w7⟩ := we p hp
        obtain ⟨t1, t2⟩ := top p b2 l (w4.keep F2 (fun z hz => by unfold InW at hz; omega)) w1 w2
        exact ⟨w1, t2, w3, ⟨b2, t1, w5⟩, w6⟩
      · have ep : p = (a, m) := List.mem_singleton.mp hp
        subst ep
        obtain ⟨t1, t2⟩ := top (a, m) b l wa2 ha harr
        exact ⟨ha, t2, hS, ⟨b, t1, q3⟩, MR.refl q2 lb⟩
    · rw [er]
      refine List.pairwise_append.mpr ⟨pw, List.pairwise_singleton _ _, fun p hp r hr => ?_⟩
      have er' : r = (a, m) := List.mem_singleton.mp hr
      subst er'
      exact (we p hp).2
  by_cases c : ws.length = 12
  · match ws, c, e1, e2, e4, e5, lenW, fin with
    | p :: us, c, e1, e2, e4, e5, lenW, fin =>
      have we0 := e4 p List.mem_cons_self
      obtain ⟨w1, w2, w3, ⟨b2, w4, w5⟩, w6⟩ := we0
      refine r_aload_0 rfl ?_
      refine r_getf rfl (by assumption) (by rfl) ?_
      refine r_invvP_0 rfl (oA) rfl rfl (by decide) (c_alSize e1) ?_
      refine r_push rfl ?_
      refine r_icneF rfl (by rw [lenW, c]; rfl) ?_
      refine r_aload_0 rfl ?_
      refine r_getf rfl q7 rfl ?_
      refine r_push rfl ?_
      refine r_invvE rfl rfl oA rfl rfl (by decide) (c_alRemove e1 q5 (i := 0) (by rw [lenW, c]; decide) (by rw [lenW, c]; decide)) ?_
      rintro v1 h1 ⟨ev, z1, A1, F1⟩
      obtain rfl : v1 = .ref p.1 := ev
      have A1 : AL G bs h1 (x + 64) arr (us.map Prod.fst) := A1
      have hF1 : ∀ z, ALP bs (x + 64) arr z → z = x + 64 ∨ z = arr ∧ x + 98 ≤ arr ∧ ¬ S arr := fun z hz => by
        rcases hz with hz | ⟨hz, hy⟩
        · exact Or.inl hz
        · rcases e3 with e3 | e3
          · exact Or.inr ⟨hz, e3⟩
          · omega
      have kw : ∀ {p2 : Nat × (Nat → Int32)} {b3 : Nat → Int32}, WA h p2.1 p2.2 b3 l → x + 98 ≤ p2.1 → (p2.1 + 15 ≤ arr ∨ arr < p2.1) → WA h1 p2.1 p2.2 b3 l := fun wp hx hy => wp.keep F1 (fun z hz => by have := hF1 z hz; omega)
      refine r_cast rfl (wa_o (kw w4 w1 w2)) rfl ?_
      refine r_goto rfl ?_
      refine fin h1 p.1 us p.2 b2 l (F1.mono (fun z hz => ?_) (by omega) (by omega)) A1 (by have : us.length + 1 = 12 := c; omega) (fun r hr => ?_) (List.Pairwise.of_cons e5) w1 w2 w3 (kw w4 w1 w2) ?_
      · rcases hF1 z hz with hz | hz
        · exact Or.inl hz
        · exact Or.inr ⟨by omega, by rw [hz.1]; exact hz.2.2⟩
      · obtain ⟨r1, r2, r3, ⟨b3, r4, r5⟩, r6⟩ := e4 r (List.mem_cons_of_mem _ hr)
        refine ⟨⟨r1, r2, r3, ⟨b3, kw r4 r1 r2, r5⟩, r6⟩, ?_⟩
        have := List.rel_of_pairwise_cons e5 hr
        omega
      · unfold remW; rw [if_pos c]; rfl
  · refine r_aload_0 rfl ?_
    refine r_getf rfl (by assumption) (by rfl) ?_
    refine r_invvP_0 rfl (oA) rfl rfl (by decide) (c_alSize e1) ?_
    refine r_push rfl ?_
    refine r_icneT rfl (fun z => c (by rw [lenW] at z; exact nI_inj (by omega) (by decide) z)) ?_
    refine r_new rfl rfl ?_
    refine r_dupR rfl ?_
    refine r_inviF rfl rfl rfl (by decide) (c_wInit (P := fun _ => False) (ni_new q5 (cs := fun _ => .inl (0, 0, .inl fun _ => 0)))) ?_
    rintro h1 ⟨wa, F1, en⟩
    refine fin h1 h.2.1 ws m0F (fun _ => 0) .null (F1.mono (fun z hz => hz.elim) (by omega) (by omega)) (e1.keep F1 id id) (by omega) (fun r hr => ?_) e5 hn ?_ (fun z sz hz => ?_) wa ?_
    · obtain ⟨r1, r2, r3, ⟨b3, r4, r5⟩, r6⟩ := e4 r hr
      refine ⟨⟨r1, r2, r3, ⟨b3, r4.keep F1 (fun z hz => hz.elim), r5⟩, r6⟩, ?_⟩
      have := q5 _ _ (r4 14 (by decide))
      omega
    · obtain ⟨mc9, t9, cap9, f9, oA9, o1, -⟩ := e1
      have := q5 _ _ o1
      omega
    · have := (sg z sz).2
      unfold InW at hz
      omega
    · unfold remW; rw [if_neg c]
end
