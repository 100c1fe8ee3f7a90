/-! PARSE: between the lines; a line of the law -/
set_option maxRecDepth 100000
section
variable {T f : Nat → Int32} {e len x bs : Nat} {at_ bg ft dp : Int32} {hi : Bool} {h h0 : am_H} {G : am_G}
theorem kind_len {a k : Nat} (z : kindF T e a = some k) : a + 4 ≤ wbF T e a ∧ k < 3 := by
  have hs := sk_ge T e a
  have key : ∀ w : List Int32, wdF T e a w = true → 4 ≤ w.length → a + 4 ≤ wbF T e a := fun w h1 h2 => by rw [wd_len h1]; omega
  unfold kindF at z
  split at z
  · rename_i q; cases z; exact ⟨key _ q (by decide), by decide⟩
  · split at z
    · rename_i q; cases z; exact ⟨key _ q (by decide), by decide⟩
    · split at z
      · rename_i q; cases z; exact ⟨key _ q (by decide), by decide⟩
      · cases z
/-- one line more follows, or none, or it is wrong -/
theorem c_goesOn (w : HW h) (og : OG G bs h) (hbs : bs ≤ x) (hx : h.1 x = some (.inr (0, xobj x hi))) (t : TX T f e) {a : Nat} (q : RS h (x + 46) f len e (nI a) bg ft dp) (ha : a ≤ e) : Et G 5 m_X1_goesOn [.ref x] h
    (fun v h' => ((skF T e a = e ∧ v = .int 0 ∧ ∃ bg, RS h' (x + 46) f len e (nI e) bg ft dp) ∨ (skF T e a ≠ e ∧ T (skF T e a) = 59 ∧ v = .int 1 ∧ ∃ bg, RS h' (x + 46) f len e (nI (skF T e a + 1)) bg ft dp)) ∧ HF (isR (x + 46)) 0 0 h h')
    (fun c h' => (skF T e a ≠ e ∧ T (skF T e a) ≠ 59) ∧ FT f (x + 46) len e ft (skF T e a) 1 h c h') := by
  have he := t.1
  have gt := og.gt
  have hs := sk_le T ha
  refine wc_in mt_X1_goesOn rfl (L := [.ref x]) rfl ?_
  refine r_aload_0 rfl ?_
  refine r_getf rfl hx rfl ?_
  refine r_invvE rfl rfl q.1 rfl rfl (by decide) (c_isOver w t q ha) ?_
  rintro v h1 ⟨rfl, q1, f1⟩
  have hx1 := f1.k hx (fun z => by simp only [isR] at z; omega)
  refine r_ifeq rfl (fun c => ?_) (fun c => ?_)
  · have c0 : skF T e a ≠ e := of_decide_eq_false (bI_0.mp c)
    refine r_aload_0 rfl ?_
    refine r_getf rfl hx1 rfl ?_
    refine r_push rfl ?_
    refine r_invvE rfl rfl q1.1 rfl rfl (by decide) (c_sign f1.w t q1 hs ⟨59, by decide, rfl⟩ (by decide)) ?_
    rintro v h2 ⟨rfl, q2, f2⟩
    rw [sg_sk, sk_idem] at *
    have hx2 := f2.k hx1 (fun z => by simp only [isR] at z; omega)
    have es : sgF T e a 59 = decide (T (skF T e a) = 59) := by unfold sgF; rw [decide_eq_true (show skF T e a < e by omega), Bool.true_and]
    rw [es] at q2 ⊢
    refine r_ifeq rfl (fun c9 => ?_) (fun c9 => ?_)
    · have c1 : T (skF T e a) ≠ 59 := of_decide_eq_false (bI_0.mp c9)
      refine r_aload_0 rfl ?_
      refine r_getf rfl hx2 rfl ?_
      refine r_invvE rfl rfl q2.1 rfl rfl (by decide) (c_wrong (P := fun _ => False) gt f2.w) ?_
      rintro v h3 ⟨rfl, ⟨fs, o3⟩, f3⟩
      refine r_athrow rfl o3 rfl rfl ?_
      exact Or.inr ⟨_, _, rfl, ⟨c0, c1⟩, rfl, ⟨_, _, q2.keep f3 (fun z => z) (fun z => z)⟩, (HF.trans (HF.trans f1 f2) (f3.mono (fun _ z => z.elim) (Nat.le_refl _) (Nat.le_refl _))).mono (fun _ z => z) (by decide) (by decide)⟩
    · have c1 : T (skF T e a) = 59 := of_decide_eq_true (bI_n0.mp c9)
      rw [decide_eq_true c1, if_pos rfl] at q2
      refine r_push rfl ?_
      refine r_zret rfl (Or.inr rfl) ?_
      exact Or.inl ⟨_, _, rfl, Or.inr ⟨c0, c1, rfl, _, q2⟩, (HF.trans f1 f2).mono (fun _ z => z) (by decide) (by decide)⟩
  · have c0 : skF T e a = e := of_decide_eq_true (bI_n0.mp c)
    rw [c0] at q1
    refine r_push rfl ?_
    refine r_zret rfl (Or.inl rfl) ?_
    exact Or.inl ⟨_, _, rfl, Or.inl ⟨c0, rfl, _, q1⟩, f1⟩
/-- room for a line more -/
theorem c_noMore (w : HW h) (og : OG G bs h) (hbs : bs ≤ x) (hx : h.1 x = some (.inr (0, xobj x hi))) (t : TX T f e) {a : Nat} (q : RS h (x + 46) f len e (nI a) bg ft dp) (ha : a ≤ e) {n m : Nat} (hn : n ≤ m) (hm : m ≤ 100) : Etn G 9 m_X1_noMore [.ref x, .int (nI n), .int (nI m)] h
    (fun h' => n ≠ m ∧ h' = h) (fun c h' => n = m ∧ FT f (x + 46) len e ft (skF T e a) 2 h c h') := by
  have he := t.1
  have gt := og.gt
  refine wc_in mt_X1_noMore rfl (L := [.ref x, .int (nI n), .int (nI m)]) rfl ?_
  refine r_iload_1 rfl ?_
  refine r_iload_2 rfl ?_
  by_cases z : n = m
  · subst z
    refine r_icgeT rfl (Int32.le_refl _) ?_
    refine r_aload_0 rfl ?_
    refine r_getf rfl hx rfl ?_
    refine r_invvE rfl rfl q.1 rfl rfl (by decide) (c_word w t q ha) ?_
    rintro v h1 ⟨s, rfl, hs2, hS, q1, f1⟩
    have hx1 := f1.k hx (fun z => by simp only [isR] at z; omega)
    refine r_popR rfl ?_
    refine r_aload_0 rfl ?_
    refine r_getf rfl hx1 rfl ?_
    refine r_invvE rfl rfl q1.1 rfl rfl (by decide) (c_wrong (P := fun _ => False) gt f1.w) ?_
    rintro v h3 ⟨rfl, ⟨fs, o3⟩, f3⟩
    refine r_athrow rfl o3 rfl rfl ?_
    exact Or.inr ⟨_, _, rfl, rfl, rfl, ⟨_, _, q1.keep f3 (fun z => z) (fun z => z)⟩, (HF.trans f1 (f3.mono (fun _ z => z.elim) (Nat.le_refl _) (Nat.le_refl _))).mono (fun _ z => z) (by decide) (by decide)⟩
  · refine r_icgeF rfl (nI_lt (by omega) (by omega)) ?_
    refine r_vret rfl ?_
    exact Or.inl ⟨_, rfl, z, rfl⟩
/-- a line of the law -/
theorem c_lawLine (w : HW h) (og : OG G bs h) (hbs : bs ≤ x) (hx : h.1 x = some (.inr (0, xobj x hi))) (t : TX T f e) {a : Nat} (q : RS h (x + 46) f len e (nI a) bg ft 0) (ha : a ≤ e) : Et G 34 m_X1_lawLine [.ref x] h
    (fun v h' => ∃ p l a', lineF T e a = .inr (l, a') ∧ v = .ref p ∧ LnA G bs h' (Sv bs h.2.1 h'.2.1) p l ∧ h.2.1 ≤ p ∧ (∃ fs, h'.1 p = some (.inr (9, fs))) ∧ a + 5 ≤ a' ∧ a' ≤ e ∧ (∃ bg, RS h' (x + 46) f len e (nI a') bg ft 0) ∧ HC (isR (x + 46)) (3 * (a' - a) - 5) h h')
    (fun c h' => ∃ z, lineF T e a = .inl z ∧ FT f (x + 46) len e ft z (3 * (e - a) + 15) h c h') := by
  have he := t.1
  have gt := og.gt
  have hs := sk_le T ha
  have hb := wb_le T ha
  have hsg := sk_ge T e a
  have hbg := wb_ge T e a
  refine wc_in mt_X1_lawLine rfl (L := [.ref x, am_un, am_un]) rfl ?_
  refine r_aload_0 rfl ?_
  refine r_getf rfl hx rfl ?_
  refine r_invvE rfl rfl q.1 rfl rfl (by decide) (c_word w t q ha) ?_
  rintro v h1 ⟨s, rfl, hs2, hS, q1, f1⟩
  have hx1 := f1.k hx (fun z => by simp only [isR] at z; omega)
  have og1 := og.keep f1 (fun z y => by simp only [isR] at y; omega)
  have w1 := f1.w
  refine r_invE rfl rfl rfl (by decide) (c_kindOf w1 og1 hS.sa) ?_
  rintro v h2 ⟨f2, ⟨e2, rfl⟩ | ⟨k, b, e2, hk, rfl, hb2, gb⟩⟩
  · rw [← kindF_W] at e2
    have q2 := q1.keep f2 (fun z => z) (fun z => z)
    have hx2 := f2.k hx1 (fun z => z)
    have el : lineF T e a = .inl (skF T e a) := by unfold lineF; rw [e2]; rfl
    rw [el]
    refine r_astoreN_1 rfl ?_
    refine r_aloadN_1 rfl ?_
    refine r_ifnonnullF rfl ?_
    refine r_aload_0 rfl ?_
    refine r_getf rfl hx2 rfl ?_
    refine r_invvE rfl rfl q2.1 rfl rfl (by decide) (c_wrong (P := fun _ => False) gt f2.w) ?_
    rintro v h3 ⟨rfl, ⟨fs, o3⟩, f3⟩
    refine r_athrow rfl o3 rfl rfl ?_
    exact Or.inr ⟨_, _, rfl, _, rfl, rfl, ⟨_, _, q2.keep f3 (fun z => z) (fun z => z)⟩, (HF.trans (HF.trans f1 (f2.mono (fun _ z => z.elim) (Nat.le_refl _) (Nat.le_refl _))) (f3.mono (fun _ z => z.elim) (Nat.le_refl _) (Nat.le_refl _))).mono (fun _ z => z) (by omega) (by omega)⟩
  · rw [← kindF_W] at e2
    have q2 := q1.keep f2 (fun z => z) (fun z => z)
    have hx2 := f2.k hx1 (fun z => z)
    have og2 := og1.keep f2 (fun _ z => z.elim)
    have w2 := f2.w
    have hkl := (kind_len e2).1
    have F2 : HF (isR (x + 46)) 11 1607 h h2 := (HF.trans f1 (f2.mono (fun _ z => z.elim) (Nat.le_refl _) (Nat.le_refl _))).mono (fun _ z => z) (by omega) (by omega)
    have el : lineF T e a = rB (numF T e 0 99 (wbF T e a)) fun n a => rB (whenF T e a) fun c a => .inr ((k, n, c), a) := by unfold lineF; rw [e2]; rfl
    rw [el]
    refine r_astore_1 rfl ?_
    refine r_aload_1 rfl ?_
    refine r_ifnonnullT rfl ?_
    refine r_aload_0 rfl ?_
    refine r_getf rfl hx2 rfl ?_
    refine r_push rfl ?_
    refine r_push rfl ?_
    refine r_invvT rfl rfl q2.1 rfl rfl rfl (by decide) (c_number gt w2 t q2 hb) ?_ ?_
    · rintro v h3 ⟨n, a3, en, rfl, ha3, q3, f3⟩
      have hl3 := num_lt en
      rw [en]
      show Wp G 34 mt_X1_lawLine 33 _ _ h3 (fun R => (∃ v h', R = .inl (some v, h') ∧ ∃ p l a', rB (whenF T e a3) (fun c a => (.inr ((k, n, c), a) : RD Ln)) = .inr (l, a') ∧ _) ∨ ∃ c h', R = .inr (c, h') ∧ ∃ z, rB (whenF T e a3) (fun c a => (.inr ((k, n, c), a) : RD Ln)) = .inl z ∧ _)
      have hx3 := f3.k hx2 (fun z => by simp only [isR] at z; omega)
      have og3 := og2.keep f3 (fun z y => by simp only [isR] at y; omega)
      have w3 := f3.w
      have F3 : HF (isR (x + 46)) 11 1607 h h3 := (HF.trans F2 f3).mono (fun _ z => z) (by omega) (by omega)
      have f4 := HF.new (n := 3) (e := .inr (9, [.null, .int 0, .null])) w3
      have F4 : HF (isR (x + 46)) 12 1610 h (am_new h3 (.inr (9, [.null, .int 0, .null])) 3) := HF.newN F3
      have e4 : (am_new h3 (.inr (9, [.null, .int 0, .null])) 3).2.1 = h3.2.1 + 1 := rfl
      have q4 := q3.keep f4 (fun z => z) (fun z => z)
      have hx4 := f4.k hx3 (fun z => z)
      have og4 := og3.keep f4 (fun _ z => z.elim)
      have hn3 := w3 _ _ q3.2
      have hz3 := F3.z
      have hz12 := f1.z
      obtain ⟨v16, g16, s16⟩ := og4.s 16 w_if (by decide)
      refine r_istore_2 rfl ?_
      refine r_new rfl rfl ?_
      refine r_dupR rfl ?_
      refine r_aload_1 rfl ?_
      refine r_iload_2 rfl ?_
      refine r_aload_0 rfl ?_
      refine r_getf rfl hx4 rfl ?_
      refine r_globR rfl g16 ?_
      refine r_invvE rfl rfl q4.1 rfl rfl (by decide) (c_passes f4.w t q4 ha3 s16.sa (by have := s16.lt; omega)) ?_
      rintro v h5 ⟨rfl, q5, f5⟩
      have hs5 := sk_le T ha3
      have hb5 := wb_le T ha3
      have hs5g := sk_ge T e a3
      have hb5g := wb_ge T e a3
      have hx5 := f5.k hx4 (fun z => by simp only [isR] at z; omega)
      have og5 := og4.keep f5 (fun z y => by simp only [isR] at y; omega)
      have w5 := f5.w
      have F5 : HF (isR (x + 46)) 22 3210 h h5 := (HF.trans F4 f5).mono (fun _ z => z) (by omega) (by omega)
      have op5 := f5.k (am_new_at (h := h3) (e := .inr (9, [.null, .int 0, .null])) (n := 3)) (fun z => by simp only [isR] at z; omega)
      have hz45 := f5.z
      refine r_ifeq rfl (fun c9 => ?_) (fun c9 => ?_)
      · have c0 : wdF T e a3 w_if = false := bI_0.mp c9
        rw [c0, if_neg (by decide)] at q5
        have ew : whenF T e a3 = .inr (fun _ => true, skF T e a3) := by unfold whenF; rw [if_neg (by rw [c0]; decide)]
        rw [ew]
        refine r_push rfl ?_
        refine r_inviF rfl rfl rfl (by decide) (c_lineInit op5 (Or.inl rfl)) ?_
        rintro h6 rfl
        refine r_aret rfl ?_
        refine Or.inl ⟨_, _, rfl, h3.2.1, _, _, rfl, rfl, ⟨Or.inr ⟨hz3, w5 _ _ op5⟩, b, _, gb, hk, am_set_at, Or.inl ⟨rfl, fun _ => rfl⟩⟩, hz3, ⟨_, am_set_at⟩, by omega, hs5, ⟨_, am_set_k q5.1 (by omega), am_set_k q5.2 (by omega)⟩, (HF.setN F5 op5 w hz3).mono (fun _ z => z) (by omega) (by omega)⟩
      · have c0 : wdF T e a3 w_if = true := bI_n0.mp c9
        have hlen : wbF T e a3 = skF T e a3 + 2 := wd_len c0
        rw [c0, if_pos rfl] at q5
        have ew : whenF T e a3 = orF T e (atomF T e 6) (wbF T e a3) := by unfold whenF; rw [if_pos c0]
        rw [ew]
        refine r_aload_0 rfl ?_
        refine r_k (nx := 57) (L' := _) (rest := [.int n, .ref b, .ref h3.2.1, .ref h3.2.1]) rfl (am_invv_ok (n := 0) (As := []) rfl hx5 rfl rfl) (by decide) (c_condTop hbs t h5 _ _ w5 og5 hx5 q5 hb5) ?_
        rintro R (⟨v, h6, rfl, p, c6, a6, e6, rfl, hp, hpn, ha6, hae, ⟨bg6, q6⟩, f6⟩ | ⟨c9, h6, rfl, z, ez, pz⟩)
        · rw [e6]
          show Wp G 34 mt_X1_lawLine 57 _ (.ref p :: [.int n, .ref b, .ref h3.2.1, .ref h3.2.1]) h6 _
          have op6 := f6.k op5 (fun z => by simp only [isR] at z; omega)
          have w6 := f6.w
          have F6 : HF (isR (x + 46)) (22 + 10 * (3 * (a6 - wbF T e a3) + 4 - 1)) (3210 + 1600 * (3 * (a6 - wbF T e a3) + 4 - 1)) h h6 := HF.trans F5 f6
          have hz6 := f6.z
          refine r_goto rfl ?_
          refine r_inviF rfl rfl rfl (by decide) (c_lineInit op6 (Or.inr ⟨_, rfl⟩)) ?_
          rintro h7 rfl
          have k7 : SK (Sv bs h5.2.1 h6.2.1) h6 (am_set h6 h3.2.1 (.inr (9, [.ref b, .int n, .ref p]))) := (HF.set w6 op6).sk (fun z y k => by rcases y with y | y <;> omega)
          refine r_aret rfl ?_
          refine Or.inl ⟨_, _, rfl, h3.2.1, _, _, rfl, rfl, ⟨Or.inr ⟨hz3, w6 _ _ op6⟩, b, _, gb, hk, am_set_at, Or.inr ⟨p, rfl, (CdA.keep k7 (Sv.mono (by omega) (Nat.le_refl _)) hp).le (by decide)⟩⟩, hz3, ⟨_, am_set_at⟩, by omega, hae, ⟨_, am_set_k q6.1 (by omega), am_set_k q6.2 (by omega)⟩, (HF.setN F6 op6 w hz3).mono (fun _ z => z) (by omega) (by omega)⟩
        · show _ ∨ _
          rw [ez]
          exact Or.inr ⟨_, _, rfl, z, rfl, pz.mono F5 (by omega) (by omega)⟩
    · rintro c9 h3 ⟨en, p3⟩
      rw [en]
      exact Or.inr ⟨_, _, rfl, _, rfl, p3.mono F2 (by omega) (by omega)⟩
end
