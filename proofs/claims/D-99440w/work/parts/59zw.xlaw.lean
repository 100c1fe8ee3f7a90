/-! THE LAW: the system reads it -/
set_option maxRecDepth 100000
/-- the row with a law's text -/
def lawR (m T : Nat → Int32) (len n : Nat) : Nat → Int32 := fun k => if k = 1 then nI n else if k = 2 then nI len else if 369 ≤ k ∧ k < 369 + len then T (k - 369) else m k
theorem lawR_lo {m T : Nat → Int32} {len n k : Nat} (h : k < 369) (h1 : k ≠ 1) (h2 : k ≠ 2) : lawR m T len n k = m k := by
  unfold lawR
  rw [if_neg h1, if_neg h2, if_neg (by omega)]
theorem lawR_ok {m T : Nat → Int32} (v : VR m) (lb : LB m) {len n : Nat} (hn : n ≤ 12) : VR (lawR m T len n) ∧ LB (lawR m T len n) ∧ ∀ b, BY b m → BY b (lawR m T len n) := by
  have e : ∀ k, k < 369 → k ≠ 1 → k ≠ 2 → lawR m T len n k = m k := fun k h h1 h2 => lawR_lo h h1 h2
  have e1 : lawR m T len n 1 = nI n := rfl
  generalize lawR m T len n = m' at *
  have e3 := e 3 (by omega) (by omega) (by omega); have e4 := e 4 (by omega) (by omega) (by omega); have e7 := e 7 (by omega) (by omega) (by omega)
  have eP : nP m' = nP m := by unfold nP; rw [e3]
  have eS : nS m' = nS m := by unfold nS; rw [e4]
  have eL : nL m' = nL m := by unfold nL; rw [e7]
  have hP := v.pp.2
  have hS := v.ss.2
  obtain ⟨⟨v1, v2, v3⟩, ⟨v4, v5⟩, v6, v7, v8⟩ := v
  refine ⟨⟨⟨by rw [e3, eP]; exact v1, by rw [e4, eS]; exact v2, by rw [e7, eL]; exact v3⟩, ⟨by rw [e 0 (by omega) (by omega) (by omega)]; exact v4, Or.inr ⟨n, by omega, e1⟩⟩, fun q hq => ?_, fun p hp => ?_, fun s hs => ?_⟩, ⟨by rw [e 6 (by omega) (by omega) (by omega)]; exact lb.1, fun r hr => ?_⟩, fun b y s hs => ?_⟩
  · rw [e _ (by omega) (by omega) (by omega), e _ (by omega) (by omega) (by omega)]; exact v6 q hq
  · rw [eP] at hp
    rw [e _ (by omega) (by omega) (by omega), e _ (by omega) (by omega) (by omega), e _ (by omega) (by omega) (by omega)]; exact v7 p hp
  · rw [eS] at hs
    rw [eP, e _ (by omega) (by omega) (by omega), e _ (by omega) (by omega) (by omega), e _ (by omega) (by omega) (by omega), e _ (by omega) (by omega) (by omega), e _ (by omega) (by omega) (by omega), e _ (by omega) (by omega) (by omega)]; exact v8 s hs
  · rw [eP] at hr
    rw [e _ (by omega) (by omega) (by omega)]; exact lb.2 r hr
  · rw [eS] at hs
    rw [e _ (by omega) (by omega) (by omega), e _ (by omega) (by omega) (by omega), e _ (by omega) (by omega) (by omega)]; exact y s hs
theorem lnL_end {α : Type} {T : Nat → Int32} {e most : Nat} {line : α → Nat → RD α} : ∀ f n (m : α) a v a', lnL T e most line f n m a = .inr (v, a') → a' = e
  | 0, _, _, _, _, _, h => by cases h
  | f + 1, n, m, a, v, a', h => by
    rw [lnL] at h
    split at h
    · cases h
    · cases hl : line m a with
      | inl z => rw [hl] at h; cases h
      | inr p =>
        obtain ⟨m2, a2⟩ := p
        rw [hl] at h
        simp only [rB] at h
        split at h
        · cases h; rfl
        · split at h
          · exact lnL_end f _ _ _ _ _ h
          · cases h
theorem law_end {T : Nat → Int32} {e a' : Nat} {ls : List Ln} (h : lawF T e = .inr (ls, a')) : a' = e := by
  unfold lawF linesF at h
  split at h
  · cases h; rfl
  · exact lnL_end _ _ _ _ _ _ h
theorem lawR_lw {m T : Nat → Int32} {len : Nat} {ls : List Ln} {a' : Nat} (hl : len ≤ 400) (h12 : ls.length ≤ 12) (h : lawF T len = .inr (ls, a')) : lwF (lawR m T len ls.length) = ls ∧ LV (lawR m T len ls.length) ∧ LC (lawR m T len ls.length) := by
  have ea := law_end h
  subst ea
  have e2 : (lawR m T a' ls.length 2).toNatClampNeg = a' := nI_clamp (by omega)
  have ct : ∀ k, k < a' → T k = txF (lawR m T a' ls.length) k := fun k hk => by
    unfold txF lawR
    rw [if_neg (by omega), if_neg (by omega), if_pos (by omega)]
    congr 1
    omega
  have e : lawF (txF (lawR m T a' ls.length)) a' = .inr (ls, a') := by rw [← law_cg ct]; exact h
  have el : lwF (lawR m T a' ls.length) = ls := by
    unfold lwF
    rw [e2, e]
  refine ⟨el, Or.inr ⟨?_, a', rfl, hl, by rw [el]; exact e⟩, fun _ => by rw [el]; rfl⟩
  show nI ls.length ≠ -1
  exact nI_neg1 (by omega)
section
variable {T f : Nat → Int32} {e len x bs n0 : Nat} {at_ bg ft dp : Int32} {hi : Bool} {h h0 : am_H} {G : am_G} {m b mt bt : Nat → Int32} {l lt : Value} {S : Nat → Prop} {ws : List (Nat × (Nat → Int32))}
theorem c_xLaw (q : HS G bs x (x + 1) S hi h m b l) (gx : bs ≤ x) (sg : SG bs x S h) (hn : x + 98 ≤ h.2.1) (W : WB G bs x S h l m ws) (lb : LB m) (r : RS h (x + 46) f len n0 at_ bg ft dp) (t : TX T f len) : Et G 37 m_X1_law [.ref x] h (fun v h' => ∃ ls p S', lawF T len = .inr (ls, len) ∧ ls.length ≤ 12 ∧ v = .int (nI ls.length) ∧ (∀ z, S z → S' z) ∧ SG bs x S' h' ∧ SK S h h' ∧ HS G bs x (x + 1) S' hi h' (lawR m T len ls.length) b (.ref p) ∧ WB G bs x S' h' (.ref p) (lawR m T len ls.length) [] ∧ (∃ at_ bg dp, RS h' (x + 46) f 0 len at_ bg (-1) dp) ∧ HF (fun a => isR (x + 46) a ∨ RP1 x S a) (10 * (3 * len + 4)) (1600 * (3 * len + 4)) h h') (fun c h' => c = 18 ∧ ∃ z h2, lawF T len = .inl z ∧ h' = am_skip h2 6 ∧ (∃ at_ bg dp, RS h2 (x + 46) f 0 len at_ bg (nI z) dp) ∧ HC (isR (x + 46)) (3 * len + 20) h h2) := by
  have he := t.1
  have Q := q
  have W0 := W
  obtain ⟨q1, v, yb, q4, q5, q6, o, s0, q8⟩ := q
  have hv : ∀ z, isR (x + 46) z → bs ≤ z ∧ ¬ InW (x + 1) z ∧ z ≠ x ∧ z ≠ x + 48 ∧ ¬ S z := fun z hz => by
    have sgz := sg z
    unfold isR at hz
    unfold InW
    exact ⟨by omega, by omega, by omega, by omega, fun y => by have := sgz y; omega⟩
  have wv : ∀ z, isR (x + 46) z → bs ≤ z ∧ z ≠ x + 64 ∧ z < x + 98 := fun z hz => by unfold isR at hz; omega
  refine wc_in mt_X1_law rfl (L := [.ref x, am_un]) rfl ?_
  refine r_aload_0 rfl ?_
  refine r_getf rfl (o) (by rfl) ?_
  refine r_invvF rfl rfl (r.1) rfl rfl (by decide) (c_begins q5 r) ?_
  rintro h1 ⟨r1, F1⟩
  skip
  have K1 := Q.kp F1 hv
  obtain ⟨k1, -, -, k4, k5, k6, k7, -⟩ := id K1
  refine r_aload_0 rfl ?_
  refine r_getf rfl k7 rfl ?_
  refine r_aload_0 rfl ?_
  refine r_k rfl (am_invv_ok rfl k7 rfl rfl) (by decide) (c_lawText k5 k6 gx k7 t r1) (fun R p => ?_)
  rcases p with ⟨u, h3, rfl, p, ls, a', el, rfl, lw, hl12, hp3, ⟨at3, bg3, r3⟩, F3⟩ | ⟨c, h3, rfl, z, ez, rfl, ⟨at3, dp3, r3⟩, F3⟩
  · show Wp G 37 mt_X1_law 15 _ _ h3 _
    have ea := law_end el
    subst ea
    obtain ⟨l1, l2, l3⟩ := lawR_lw (m := m) he hl12 el
    obtain ⟨v9, lb9, yb9⟩ := lawR_ok (T := T) (len := a') v lb hl12
    have F13 : HC (isR (x + 46)) (3 * a' + 3) h h3 := (HF.trans F1 F3).mono (fun _ z => z) (by omega) (by omega)
    have K3 := Q.kp F13 hv
    obtain ⟨k1', -, -, k4', k5', k6', k7', ks', k8'⟩ := id K3
    have n1 := F1.z; have n3 := F3.z
    refine r_puta rfl (wa_o k1') rfl ?_
    have wa4 : WA (am_set h3 (x + 1) (.inr (1, wobj (x + 1) m (.ref p)))) (x + 1) m b (.ref p) := k1'.law
    have F4 : HF (InW (x + 1)) 0 0 h3 (am_set h3 (x + 1) (.inr (1, wobj (x + 1) m (.ref p)))) := k1'.hf k5' (i := 0) (by decide)
    show Wp G 37 mt_X1_law 18 _ _ (am_set h3 (x + 1) (.inr (1, wobj (x + 1) m (.ref p)))) _
    generalize am_set h3 (x + 1) (.inr (1, wobj (x + 1) m (.ref p))) = h4 at *
    have o4 := F4.k k7' (by unfold InW; omega)
    have r4 := r3.keep F4 (fun z => by unfold InW at z; omega) (fun z => by unfold InW at z; omega)
    refine r_aload_0 rfl ?_
    refine r_getf rfl o4 rfl ?_
    refine r_push rfl ?_
    refine r_puti rfl r4.1 rfl ?_
    have r5 : RS (am_set h4 (x + 46) (.inr (2, robj (x + 46) 0 a' at3 bg3 (-1) 0))) (x + 46) f 0 a' at3 bg3 (-1) 0 := ⟨am_set_at, am_set_k r4.2 (by omega)⟩
    have F5 : HF (isR (x + 46)) 0 0 h4 (am_set h4 (x + 46) (.inr (2, robj (x + 46) 0 a' at3 bg3 (-1) 0))) := (HF.set F4.w r4.1).mono (fun a z => z) (Nat.le_refl _) (Nat.le_refl _)
    show Wp G 37 mt_X1_law 26 _ _ (am_set h4 (x + 46) (.inr (2, robj (x + 46) 0 a' at3 bg3 (-1) 0))) _
    generalize am_set h4 (x + 46) (.inr (2, robj (x + 46) 0 a' at3 bg3 (-1) 0)) = h5 at *
    have o5 := F5.k o4 (by unfold isR; omega)
    have W5 := ((W0.kp F13 wv).kp F4 (fun z hz => by unfold InW at hz; omega)).kp F5 wv
    obtain ⟨arr, e1, e2, e3, e4, e5⟩ := id W5
    obtain ⟨mc, tt, cap, ff, oA, oR, -⟩ := id e1
    obtain ⟨arr0, e10, -, -, -, -⟩ := id W0
    have lenW : (ws.map Prod.fst).length = ws.length := List.length_map _
    refine r_goto rfl ?_
    refine r_aload_0 rfl ?_
    refine r_getf rfl o5 rfl ?_
    refine r_invvF rfl rfl oA rfl rfl (by decide) (c_alClear e1 F5.w (by omega)) ?_
    rintro h6 ⟨A6, F6⟩
    have hF6 : ∀ z, ALP bs (x + 64) arr z → RP x S z := fun z hz => by
      rcases hz with hz | ⟨hz, hy⟩
      · exact Or.inl hz
      · rcases e3 with e3 | e3
        · exact Or.inr ⟨by omega, by rw [hz]; exact e3.2⟩
        · omega
    have nR : ∀ z, RP x S z → z = x + 64 ∨ x + 98 ≤ z := fun z hz => by rcases hz with hz | hz; exact Or.inl hz; exact Or.inr hz.1
    have Fall : HF (fun a => isR (x + 46) a ∨ RP1 x S a) (10 * (3 * a' + 4)) (1600 * (3 * a' + 4)) h h6 := (HF.trans (HF.trans (HF.trans (F13.mono (fun z y => Or.inl y) (Nat.le_refl _) (Nat.le_refl _)) (F4.mono (fun z y => Or.inr (Or.inl (Or.inl y))) (Nat.le_refl _) (Nat.le_refl _))) (F5.mono (fun z y => Or.inl y) (Nat.le_refl _) (Nat.le_refl _))) (F6.mono (fun z y => Or.inr (Or.inr (hF6 z y))) (Nat.le_refl _) (Nat.le_refl _))).mono (fun _ z => z) (by omega) (by omega)
    have nS : ∀ z, S z → ¬ (isR (x + 46) z ∨ RP1 x S z) := fun z sz hz => by
      rcases hz with hz | hz | hz | hz
      · exact (hv z hz).2.2.2.2 sz
      · have := (sg z sz).1; unfold HP InW at hz; omega
      · have := (sg z sz).1; omega
      · exact hz.2 sz
    have SKa : SK S h h6 := Fall.sk nS
    -- cells of the new law
    have arrN : arr < h1.2.1 ∨ arr < bs := by
      rcases e3 with e3 | e3
      · refine Or.inl ?_
        obtain ⟨mc0, t0, c0, f0, oA0, oR0, -⟩ := id e10
        have oA5 := F5.k (F4.k (F13.k oA0 (by unfold isR; omega)) (by unfold InW; omega)) (by unfold isR; omega)
        rw [oA5] at oA
        have : arr0 = arr := by
          have z := Option.some.inj oA
          have z2 := Sum.inr.inj z
          have z3 := congrArg (fun p => (Prod.snd p)[1]?) z2
          simpa using z3
        rw [← this]
        exact Nat.lt_of_lt_of_le (q5 _ _ oR0) n1
      · exact Or.inr e3
    have SK3 : SK (Sv bs h1.2.1 h3.2.1) h3 h6 := fun z e sz ez => by
      have h1n := F1.z
      have z1 : ¬ InW (x + 1) z := fun y => by unfold InW at y; unfold Sv at sz; omega
      have z2 : ¬ isR (x + 46) z := fun y => by unfold isR at y; unfold Sv at sz; omega
      refine F6.k (F5.k (F4.k ez z1) z2) (fun y => ?_)
      rcases y with y | ⟨y, y2⟩
      · unfold Sv at sz; omega
      · unfold Sv at sz
        rcases e3 with e3 | e3 <;> rcases arrN with e9 | e9 <;> omega
    have lw6 : LwA G bs h6 (fun z => S z ∨ Sv bs h1.2.1 h3.2.1 z) p ls := lw.keep SK3 (fun z y => Or.inr y)
    have wa6 := (wa4.keep F5 (fun z y => by unfold isR at y; omega)).keep F6 (fun z hz => by have := nR z (hF6 z hz); omega)
    have o6 := F6.k o5 (fun hz => by have := nR _ (hF6 _ hz); omega)
    obtain ⟨sp, la, xs, ol, ⟨-, arr2, -, al2⟩, lx, -⟩ := id lw6
    obtain ⟨_, _, _, _, oal, -⟩ := id al2
    refine r_aload_0 rfl ?_
    refine r_getf rfl o6 rfl ?_
    refine r_getf rfl (wa_o wa6) rfl ?_
    refine r_getf rfl ol rfl ?_
    refine r_invvP_0 rfl oal rfl rfl (by decide) (c_alSize al2) ?_
    refine r_iret rfl ?_
    have n5 := F5.z; have n4 := F4.z; have n6 := F6.z
    have ag : ∀ k, (k < 69 ∨ 129 ≤ k ∨ (k - 69) % 6 < 4) → True := fun _ _ => trivial
    refine Or.inl ⟨_, _, rfl, ls, p, _, el, hl12, by rw [lx], fun z sz => Or.inl sz, fun z sz => ?_, SKa, ⟨?_, v9, yb9 b yb, Or.inr ⟨?_, p, rfl, by rw [l1]; exact lw6⟩, F6.w, q6.keep Fall (fun z hz => ?_), o6, ks', F6.k (F5.k (F4.k k8' (by unfold InW; omega)) (by unfold isR; omega)) (fun hz => by have := nR _ (hF6 _ hz); omega)⟩, ⟨arr, A6, by decide, ?_, fun p hp => absurd hp (by simp), List.Pairwise.nil⟩, ⟨_, _, _, r5.keep F6 (fun hz => by have := nR _ (hF6 _ hz); omega) (fun hz => by have := nR _ (hF6 _ hz); omega)⟩, Fall⟩
    · rcases sz with sz | sz
      · have := sg z sz; have := Fall.z; omega
      · unfold Sv at sz; omega
    · intro j hj
      rw [wa6 j hj]
      refine congrArg some (wcl_eq hj (fun k z => (lawR_lo ?_ ?_ ?_).symm) (fun _ s hs => rfl) (fun _ => rfl))
      · exact Nat.lt_of_not_le (fun y => z ⟨fun _ => by omega, fun _ _ => by omega, fun _ => by omega, fun _ => by omega, fun _ _ => by omega, fun _ => by omega⟩)
      · rintro rfl; exact z ⟨fun _ => by omega, fun _ _ => by omega, fun _ => by omega, fun _ => by omega, fun _ _ => by omega, fun _ => by omega⟩
      · rintro rfl; exact z ⟨fun _ => by omega, fun _ _ => by omega, fun _ => by omega, fun _ => by omega, fun _ _ => by omega, fun _ => by omega⟩
    · rcases l2 with z | z
      · exact absurd z (nI_neg1 (by omega))
      · exact z.1
    · rcases hz with hz | hz | hz
      · exact (hv z hz).1
      · unfold HP InW at hz; omega
      · have := nR z hz; omega
    · rcases e3 with e3 | e3
      · refine Or.inl ⟨e3.1, fun y => ?_⟩
        rcases y with y | y
        · exact e3.2 y
        · unfold Sv at y; omega
      · exact Or.inr e3
  · show Wp G 37 mt_X1_law 30 [.ref x, am_un] [] h3 _
    have F13 : HC (isR (x + 46)) (3 * len + 20) h h3 := (HF.trans F1 F3).mono (fun _ z => z) (by omega) (by omega)
    have K3 := Q.kp F13 hv
    obtain ⟨k1'', -, -, k4'', k5'', k6'', k7'', -⟩ := id K3
    refine r_aload_0 rfl ?_
    refine r_k rfl (am_invv_ok rfl k7'' rfl rfl) (by decide) (c_fails k5'' k7'' r3) (fun R p => ?_)
    obtain ⟨h4, r4, F4, rfl⟩ := p
    exact Or.inr ⟨_, _, rfl, rfl, z, h4, ez, rfl, ⟨_, _, _, r4⟩, (HF.trans F13 F4).mono (fun _ z => z) (by omega) (by omega)⟩
end
