/-! PARSE: atoms -/
set_option maxRecDepth 100000
section
variable {T f : Nat → Int32} {e len x bs : Nat} {at_ bg ft dp : Int32} {hi : Bool} {h h0 : am_H} {G : am_G}
theorem Sv.mono {bs l u l' u' : Nat} (h1 : l' ≤ l) (h2 : u ≤ u') : ∀ z, Sv bs l u z → Sv bs l' u' z := fun z q => by
  rcases q with q | q
  · exact Or.inl q
  · exact Or.inr ⟨by omega, by omega⟩
/-- a sum behind the sign, the other one known -/
theorem c_cmpEnd {ty : Nat} (w0 : HW h0) (hbs : bs ≤ x) (hx0 : x + 47 < h0.2.1) {h2 h3 : am_H} {pl : Nat} {p q : Nat} {s1 s2 : Sm} {c : Cd} {n : Nat} (F : HF (isR (x + 46)) (10 * n) (1600 * n) h0 h3) (hpl : h0.2.1 ≤ pl) (op : h3.1 pl = some (.inr (15, [.null, .null]))) (hp : SmA G bs h3 (Sv bs h0.2.1 pl) p s1 ∧ SmA G bs h3 (Sv bs (pl + 1) h3.2.1) q s2 ∨ SmA G bs h3 (Sv bs (pl + 1) h3.2.1) p s1 ∧ SmA G bs h3 (Sv bs h0.2.1 pl) q s2) (hc : ∀ F, c F = decide (s1 F < s2 F)) : CdA G bs (am_set h3 pl (.inr (15, [.ref p, .ref q]))) (Sv bs h0.2.1 h3.2.1) 1 pl c := by
  have w3 := F.w
  have hlt := w3 _ _ op
  have hz := F.z
  have k1 : SK (Sv bs h0.2.1 pl) h3 (am_set h3 pl (.inr (15, [.ref p, .ref q]))) := (HF.set w3 op).sk (fun z y k => by rcases y with y | y <;> omega)
  have k2 : SK (Sv bs (pl + 1) h3.2.1) h3 (am_set h3 pl (.inr (15, [.ref p, .ref q]))) := (HF.set w3 op).sk (fun z y k => by rcases y with y | y <;> omega)
  have m1 := Sv.mono (bs := bs) (l := h0.2.1) (u := pl) (l' := h0.2.1) (u' := h3.2.1) (Nat.le_refl _) (by omega)
  have m2 := Sv.mono (bs := bs) (l := pl + 1) (u := h3.2.1) (l' := h0.2.1) (u' := h3.2.1) (by omega) (Nat.le_refl _)
  refine ⟨Or.inr ⟨hpl, hlt⟩, Or.inr (Or.inl ⟨p, q, s1, s2, am_set_at, ?_, ?_, hc⟩)⟩
  · rcases hp with ⟨y, -⟩ | ⟨y, -⟩
    · exact y.keep k1 m1
    · exact y.keep k2 m2
  · rcases hp with ⟨-, y⟩ | ⟨-, y⟩
    · exact y.keep k2 m2
    · exact y.keep k1 m1
theorem sum_sk {a : Nat} : sumF T e (skF T e a) = sumF T e a := by
  unfold sumF partF facP isFgF
  simp only [sk_idem, num_sk, fact_sk, wb_sk]
theorem sg_sk {a : Nat} {c : Int32} : sgF T e (skF T e a) c = sgF T e a c := by unfold sgF; rw [sk_idem]
/-- behind the first sum -/
theorem c_cmp {d : Nat} (hd : 12 ≤ d) (w0 : HW h0) (hbs : bs ≤ x) (hx0 : x + 47 < h0.2.1) (t : TX T f e) {a0 a p : Nat} {s : Sm} (w : HW h) (og : OG G bs h) (hx : h.1 x = some (.inr (0, xobj x hi))) (q : RS h (x + 46) f len e (nI a) bg ft dp) (ha : a ≤ e) (ha0 : a0 + 1 ≤ a) (hp : SmA G bs h (Sv bs h0.2.1 h.2.1) p s) (F : HC (isR (x + 46)) (3 + (a - a0)) h0 h) :
    Wp G d mt_X1_atom 118 [.ref x, .ref (x + 46), .ref p] [] h (condQ T f G bs x len e ft dp 0 1 a0 h0 (cmpF T e s a)) := by
  have he := t.1
  have gt := og.gt
  have hz0 := F.z
  refine r_aload_1 rfl ?_
  refine r_push rfl ?_
  refine r_invvE rfl rfl q.1 rfl rfl (by omega) (c_sign w t q ha ⟨60, by decide, rfl⟩ (by decide)) ?_
  rintro v h1 ⟨rfl, q1, f1⟩
  have hs1 := sk_le T ha
  have hg1 := sk_ge T e a
  have hx1 := f1.k hx (fun z => by simp only [isR] at z; omega)
  have og1 := og.keep f1 (fun z y => by simp only [isR] at y; omega)
  have w1 := f1.w
  have F1 : HC (isR (x + 46)) (3 + (a - a0)) h0 h1 := (HF.trans F f1).mono (fun _ z => z) (by omega) (by omega)
  have hp1 : SmA G bs h1 (Sv bs h0.2.1 h1.2.1) p s := hp.keep (f1.sk (fun z y k => by simp only [isR] at k; rcases y with y | y <;> omega)) (Sv.mono (Nat.le_refl _) f1.z)
  refine r_ifeq rfl (fun c => ?_) (fun c => ?_)
  · have c0 : sgF T e a 60 = false := bI_0.mp c
    rw [c0, if_neg (by decide)] at q1
    refine r_aload_1 rfl ?_
    refine r_push rfl ?_
    refine r_invvE rfl rfl q1.1 rfl rfl (by omega) (c_sign w1 t q1 hs1 ⟨62, by decide, rfl⟩ (by decide)) ?_
    rintro v h2 ⟨rfl, q2, f2⟩
    rw [sk_idem, sg_sk] at q2
    rw [sg_sk]
    have hx2 := f2.k hx1 (fun z => by simp only [isR] at z; omega)
    have og2 := og1.keep f2 (fun z y => by simp only [isR] at y; omega)
    have w2 := f2.w
    have F2 : HC (isR (x + 46)) (3 + (a - a0)) h0 h2 := (HF.trans F1 f2).mono (fun _ z => z) (by omega) (by omega)
    have hp2 : SmA G bs h2 (Sv bs h0.2.1 h2.2.1) p s := hp1.keep (f2.sk (fun z y k => by simp only [isR] at k; rcases y with y | y <;> omega)) (Sv.mono (Nat.le_refl _) f2.z)
    refine r_ifne rfl (fun c9 => ?_) (fun c9 => ?_)
    · have c1 : sgF T e a 62 = true := bI_n0.mp c9
      have hlt : skF T e a < e := by
        unfold sgF at c1
        simp only [Bool.and_eq_true, decide_eq_true_eq] at c1
        exact c1.1
      rw [c1, if_pos rfl] at q2
      have ec : cmpF T e s a = rB (sumF T e (skF T e a + 1)) fun t a => .inr (fun F => decide (t F < s F), a) := by unfold cmpF; rw [if_neg (by rw [c0]; decide), if_pos c1]
      rw [ec]
      have f3 := HF.new (n := 2) (e := .inr (15, [.null, .null])) w2
      have q3 := q2.keep f3 (fun z => z) (fun z => z)
      have hx3 := f3.k hx2 (fun z => z)
      have og3 := og2.keep f3 (fun _ z => z.elim)
      have hp3 : SmA G bs (am_new h2 (.inr (15, [.null, .null])) 2) (Sv bs h0.2.1 h2.2.1) p s := hp2.keep (f3.sk (fun _ _ z => z)) (fun _ z => z)
      have F3 : HF (isR (x + 46)) (10 * (3 + (a - a0)) + 1) (1600 * (3 + (a - a0)) + 2) h0 (am_new h2 (.inr (15, [.null, .null])) 2) := (HF.newN F2)
      have hw2 : (am_new h2 (.inr (15, [.null, .null])) 2).2.1 = h2.2.1 + 1 := rfl
      have hz2 := F2.z
      have hr2 := w2 _ _ q2.2
      refine r_new rfl rfl ?_
      refine r_dupR rfl ?_
      refine r_aload_0 rfl ?_
      refine r_k (nx := 162) (L' := _) (rest := [.ref h2.2.1, .ref h2.2.1]) rfl (am_invv_ok (n := 0) (As := []) rfl hx3 rfl rfl) (by omega) (c_sum f3.w og3 hbs hx3 t q3 (by omega)) ?_
      rintro R (⟨v, h4, rfl, p2, s2, a2, e2, rfl, hp4, hpn, ha2, hae, ⟨bg4, q4⟩, f4⟩ | ⟨c9, h4, rfl, z, ez, pz⟩)
      · rw [e2]
        show Wp G d mt_X1_atom 162 _ (.ref p2 :: [.ref h2.2.1, .ref h2.2.1]) h4 _
        have op4 := f4.k (am_new_at (h := h2) (e := .inr (15, [.null, .null])) (n := 2)) (fun z => by simp only [isR] at z; omega)
        have F4 : HC (isR (x + 46)) (3 * (a2 - a0) - 1) h0 h4 := (HF.trans F3 f4).mono (fun _ z => z) (by omega) (by omega)
        have hp44 : SmA G bs h4 (Sv bs h0.2.1 h2.2.1) p s := hp3.keep (f4.sk (fun z y k => by simp only [isR] at k; rcases y with y | y <;> omega)) (fun _ z => z)
        refine r_aload_2 rfl ?_
        refine r_inviF rfl rfl rfl (by omega) (c_lessInit op4) ?_
        rintro h5 rfl
        refine r_aret rfl ?_
        have hn1 : x + 46 ≠ h2.2.1 := by omega
        have hn2 : x + 46 + 1 ≠ h2.2.1 := by omega
        refine Or.inl ⟨_, _, rfl, h2.2.1, _, _, rfl, rfl, c_cmpEnd (ty := 0) (h2 := h2) w0 hbs hx0 F4 hz2 op4 (Or.inr ⟨hp4, hp44⟩) (fun _ => rfl), hz2, by omega, hae, ⟨_, am_set_k q4.1 hn1, am_set_k q4.2 hn2⟩, (HF.setN F4 op4 w0 hz2)⟩
      · show condQ T f G bs x len e ft dp 0 1 a0 h0 _ (.inr (c9, h4))
        rw [ez]
        exact Or.inr ⟨_, _, rfl, z, rfl, pz.mono F3 (by omega) (by omega)⟩
    · have c1 : sgF T e a 62 = false := bI_0.mp c9
      rw [c1, if_neg (by decide)] at q2
      have ec : cmpF T e s a = .inl (skF T e a) := by unfold cmpF; rw [if_neg (by rw [c0]; decide), if_neg (by rw [c1]; decide)]
      rw [ec]
      refine r_aload_1 rfl ?_
      refine r_invvE rfl rfl q2.1 rfl rfl (by omega) (c_wrong (P := fun _ => False) gt w2) ?_
      rintro v h4 ⟨rfl, ⟨fs, o4⟩, f4⟩
      refine r_athrow rfl o4 rfl rfl ?_
      exact Or.inr ⟨_, _, rfl, _, rfl, rfl, ⟨_, _, q2.keep f4 (fun z => z) (fun z => z)⟩, (HF.trans F2 (f4.mono (fun _ z => z.elim) (Nat.le_refl _) (Nat.le_refl _))).mono (fun _ z => z) (by omega) (by omega)⟩
  · have c1 : sgF T e a 60 = true := bI_n0.mp c
    have hlt : skF T e a < e := by
      unfold sgF at c1
      simp only [Bool.and_eq_true, decide_eq_true_eq] at c1
      exact c1.1
    rw [c1, if_pos rfl] at q1
    have ec : cmpF T e s a = rB (sumF T e (skF T e a + 1)) fun t a => .inr (fun F => decide (s F < t F), a) := by unfold cmpF; rw [if_pos c1]
    rw [ec]
    have f3 := HF.new (n := 2) (e := .inr (15, [.null, .null])) w1
    have q3 := q1.keep f3 (fun z => z) (fun z => z)
    have hx3 := f3.k hx1 (fun z => z)
    have og3 := og1.keep f3 (fun _ z => z.elim)
    have hp3 : SmA G bs (am_new h1 (.inr (15, [.null, .null])) 2) (Sv bs h0.2.1 h1.2.1) p s := hp1.keep (f3.sk (fun _ _ z => z)) (fun _ z => z)
    have F3 : HF (isR (x + 46)) (10 * (3 + (a - a0)) + 1) (1600 * (3 + (a - a0)) + 2) h0 (am_new h1 (.inr (15, [.null, .null])) 2) := (HF.newN F1)
    have hw2 : (am_new h1 (.inr (15, [.null, .null])) 2).2.1 = h1.2.1 + 1 := rfl
    have hz2 := F1.z
    have hr2 := w1 _ _ q1.2
    refine r_new rfl rfl ?_
    refine r_dupR rfl ?_
    refine r_aload_2 rfl ?_
    refine r_aload_0 rfl ?_
    refine r_k (nx := 136) (L' := _) (rest := [.ref p, .ref h1.2.1, .ref h1.2.1]) rfl (am_invv_ok (n := 0) (As := []) rfl hx3 rfl rfl) (by omega) (c_sum f3.w og3 hbs hx3 t q3 (by omega)) ?_
    rintro R (⟨v, h4, rfl, p2, s2, a2, e2, rfl, hp4, hpn, ha2, hae, ⟨bg4, q4⟩, f4⟩ | ⟨c9, h4, rfl, z, ez, pz⟩)
    · rw [e2]
      show Wp G d mt_X1_atom 136 _ (.ref p2 :: [.ref p, .ref h1.2.1, .ref h1.2.1]) h4 _
      have op4 := f4.k (am_new_at (h := h1) (e := .inr (15, [.null, .null])) (n := 2)) (fun z => by simp only [isR] at z; omega)
      have F4 : HC (isR (x + 46)) (3 * (a2 - a0) - 1) h0 h4 := (HF.trans F3 f4).mono (fun _ z => z) (by omega) (by omega)
      have hp44 : SmA G bs h4 (Sv bs h0.2.1 h1.2.1) p s := hp3.keep (f4.sk (fun z y k => by simp only [isR] at k; rcases y with y | y <;> omega)) (fun _ z => z)
      refine r_inviF rfl rfl rfl (by omega) (c_lessInit op4) ?_
      rintro h5 rfl
      refine r_aret rfl ?_
      have hn1 : x + 46 ≠ h1.2.1 := by omega
      have hn2 : x + 46 + 1 ≠ h1.2.1 := by omega
      refine Or.inl ⟨_, _, rfl, h1.2.1, _, _, rfl, rfl, c_cmpEnd (ty := 0) (h2 := h1) w0 hbs hx0 F4 hz2 op4 (Or.inl ⟨hp44, hp4⟩) (fun _ => rfl), hz2, by omega, hae, ⟨_, am_set_k q4.1 hn1, am_set_k q4.2 hn2⟩, (HF.setN F4 op4 w0 hz2)⟩
    · show condQ T f G bs x len e ft dp 0 1 a0 h0 _ (.inr (c9, h4))
      rw [ez]
      exact Or.inr ⟨_, _, rfl, z, rfl, pz.mono F3 (by omega) (by omega)⟩
/-- an atom that is a word, or a comparison -/
theorem c_plain {d : Nat} (hd : 12 ≤ d) (w0 : HW h0) (hbs : bs ≤ x) (hx0 : x + 47 < h0.2.1) (t : TX T f e) {a : Nat} (w : HW h) (og : OG G bs h) (hx : h.1 x = some (.inr (0, xobj x hi))) (q : RS h (x + 46) f len e (nI (skF T e a)) bg ft dp) (ha : a ≤ e) (F : HC (isR (x + 46)) 1 h0 h) :
    Wp G d mt_X1_atom 75 [.ref x, .ref (x + 46), am_un] [] h (condQ T f G bs x len e ft dp 0 1 a h0 (plainF T e a)) := by
  have he := t.1
  have gt := og.gt
  have hz0 := F.z
  have hs := sk_le T ha
  have hg := sk_ge T e a
  have hb := wb_le T ha
  have hbg := wb_ge T e a
  obtain ⟨v20, g20, s20⟩ := og.s 20 w_there (by decide)
  obtain ⟨v21, g21, s21⟩ := og.s 21 w_light (by decide)
  refine r_aload_1 rfl ?_
  refine r_globR rfl g20 ?_
  refine r_invvE rfl rfl q.1 rfl rfl (by omega) (c_passes w t q hs s20.sa (by have := s20.lt; omega)) ?_
  rintro v h1 ⟨rfl, q1, f1⟩
  rw [wd_sk, wb_sk, sk_idem] at q1
  rw [wd_sk]
  have hx1 := f1.k hx (fun z => by simp only [isR] at z; omega)
  have og1 := og.keep f1 (fun z y => by simp only [isR] at y; omega)
  have w1 := f1.w
  have F1 : HC (isR (x + 46)) 2 h0 h1 := (HF.trans F f1).mono (fun _ z => z) (by omega) (by omega)
  refine r_ifeq rfl (fun c => ?_) (fun c => ?_)
  · have c0 : wdF T e a w_there = false := bI_0.mp c
    rw [c0, if_neg (by decide)] at q1
    refine r_aload_1 rfl ?_
    refine r_globR rfl g21 ?_
    refine r_invvE rfl rfl q1.1 rfl rfl (by omega) (c_passes w1 t q1 hs (s21.keep f1 (fun z y => by simp only [isR] at y; omega)).sa (by have := s21.lt; omega)) ?_
    rintro v h2 ⟨rfl, q2, f2⟩
    rw [wd_sk, wb_sk, sk_idem] at q2
    rw [wd_sk]
    have hx2 := f2.k hx1 (fun z => by simp only [isR] at z; omega)
    have og2 := og1.keep f2 (fun z y => by simp only [isR] at y; omega)
    have w2 := f2.w
    have F2 : HC (isR (x + 46)) 3 h0 h2 := (HF.trans F1 f2).mono (fun _ z => z) (by omega) (by omega)
    have hz2 := F2.z
    refine r_ifeq rfl (fun c9 => ?_) (fun c9 => ?_)
    · have c1 : wdF T e a w_light = false := bI_0.mp c9
      rw [c1, if_neg (by decide)] at q2
      have ep : plainF T e a = rB (sumF T e a) fun s a => cmpF T e s a := by unfold plainF; rw [if_neg (by rw [c0]; decide), if_neg (by rw [c1]; decide)]
      rw [ep]
      refine r_aload_0 rfl ?_
      refine r_k (nx := 117) (L' := _) (rest := []) rfl (am_invv_ok (n := 0) (As := []) rfl hx2 rfl rfl) (by omega) (c_sum w2 og2 hbs hx2 t q2 hs) ?_
      rw [sum_sk]
      rintro R (⟨v, h3, rfl, p, s, a1, e1, rfl, hp, hpn, ha1, hae, ⟨bg3, q3⟩, f3⟩ | ⟨c9, h3, rfl, z, ez, pz⟩)
      · rw [e1]
        show Wp G d mt_X1_atom 117 _ (.ref p :: []) h3 _
        refine r_astore_2 rfl ?_
        exact c_cmp hd w0 hbs hx0 t f3.w (og2.keep f3 (fun z y => by simp only [isR] at y; omega)) (f3.k hx2 (fun z => by simp only [isR] at z; omega)) q3 hae (by omega) (hp.keep SK.refl (Sv.mono hz2 (Nat.le_refl _))) ((HF.trans F2 f3).mono (fun _ z => z) (by omega) (by omega))
      · show condQ T f G bs x len e ft dp 0 1 a h0 _ (.inr (c9, h3))
        rw [ez]
        exact Or.inr ⟨_, _, rfl, z, rfl, pz.mono F2 (by omega) (by omega)⟩
    · have c1 : wdF T e a w_light = true := bI_n0.mp c9
      have hl : wbF T e a = skF T e a + 5 := wd_len c1
      rw [c1, if_pos rfl] at q2
      have ep : plainF T e a = .inr (fun F => decide (F 8 = 1), wbF T e a) := by unfold plainF; rw [if_neg (by rw [c0]; decide), if_pos c1]
      rw [ep]
      have f3 := HF.new (n := 1) (e := .inr (12, [.int 0])) w2
      have hn := w2 _ _ q2.2
      refine r_new rfl rfl ?_
      refine r_dupR rfl ?_
      refine r_push rfl ?_
      have F3 : HF (isR (x + 46)) (10 * 3 + 1) (1600 * 3 + 1) h0 (am_new h2 (.inr (12, [.int 0])) 1) := HF.newN F2
      refine r_inviF rfl rfl rfl (by omega) (c_tagInit (b := false) am_new_at) ?_
      rintro h5 rfl
      refine r_aret rfl ?_
      refine Or.inl ⟨_, _, rfl, h2.2.1, _, _, rfl, rfl, ⟨Or.inr ⟨hz2, Nat.lt_succ_self _⟩, Or.inl ⟨false, am_set_at, fun _ => rfl⟩⟩, hz2, by omega, hb, ⟨_, am_set_k (am_new_k w2 q2.1) (by omega), am_set_k (am_new_k w2 q2.2) (by omega)⟩, (HF.setN F3 am_new_at w0 hz2).mono (fun _ z => z) (by omega) (by omega)⟩
  · have c0 : wdF T e a w_there = true := bI_n0.mp c
    have hl : wbF T e a = skF T e a + 5 := wd_len c0
    rw [c0, if_pos rfl] at q1
    have ep : plainF T e a = .inr (fun F => decide (F 7 = 1), wbF T e a) := by unfold plainF; rw [if_pos c0]
    rw [ep]
    have hn := w1 _ _ q1.2
    have hz1 := F1.z
    refine r_new rfl rfl ?_
    refine r_dupR rfl ?_
    refine r_push rfl ?_
    have F3 : HF (isR (x + 46)) (10 * 2 + 1) (1600 * 2 + 1) h0 (am_new h1 (.inr (12, [.int 0])) 1) := HF.newN F1
    refine r_inviF rfl rfl rfl (by omega) (c_tagInit (b := true) am_new_at) ?_
    rintro h5 rfl
    refine r_aret rfl ?_
    refine Or.inl ⟨_, _, rfl, h1.2.1, _, _, rfl, rfl, ⟨Or.inr ⟨hz1, Nat.lt_succ_self _⟩, Or.inl ⟨true, am_set_at, fun _ => rfl⟩⟩, hz1, by omega, hb, ⟨_, am_set_k (am_new_k w1 q1.1) (by omega), am_set_k (am_new_k w1 q1.2) (by omega)⟩, (HF.setN F3 am_new_at w0 hz1).mono (fun _ z => z) (by omega) (by omega)⟩
theorem plain_sk {a : Nat} : plainF T e (skF T e a) = plainF T e a := by unfold plainF; simp only [wd_sk, wb_sk, sum_sk]
theorem CdA.widen {n m : Nat} {a l u l' u' : Nat} {c : Cd} (q : CdA G bs h (Sv bs l u) n a c) (hm : n ≤ m) (h1 : l' ≤ l) (h2 : u ≤ u') : CdA G bs h (Sv bs l' u') m a c := (CdA.keep SK.refl (Sv.mono h1 h2) q).le hm
/-- how an atom begins: a sign, a word -/
theorem c_atomB {D d : Nat} {it : Option (Nat → RD Cd)} (hd : 13 ≤ d) (hD : D ≤ 6) (hbs : bs ≤ x) (t : TX T f e) (h0z : it = none → D = 0)
    (IT : ∀ fi, it = some fi → 1 ≤ D ∧ ∃ N d1 d2, N + 2 ≤ 2 * D + 1 ∧ d1 < d ∧ d2 < d ∧ condC T f G bs x len e hi ft (nI (6 - (D - 1))) 0 N d1 m_X1_atom fi ∧ condC T f G bs x len e hi ft (nI (6 - (D - 1))) 4 (N + 2) d2 m_X1_cond (orF T e fi)) : condC T f G bs x len e hi ft (nI (6 - D)) 0 (2 * D + 1) d m_X1_atom (atomB T e it) := by
  intro h a bg w og hx q ha
  have he := t.1
  have gt := og.gt
  have hs := sk_le T ha
  have hg := sk_ge T e a
  have hb := wb_le T ha
  have hbg := wb_ge T e a
  have hx47 := w _ _ q.2
  obtain ⟨v19, g19, s19⟩ := og.s 19 w_not (by decide)
  refine wc_in mt_X1_atom rfl (L := [.ref x, am_un, am_un]) rfl ?_
  refine r_aload_0 rfl ?_
  refine r_getf rfl hx rfl ?_
  refine r_astore_1 rfl ?_
  refine r_aload_1 rfl ?_
  refine r_push rfl ?_
  refine r_invvE rfl rfl q.1 rfl rfl (by omega) (c_sign w t q ha ⟨40, by decide, rfl⟩ (by decide)) ?_
  rintro v h1 ⟨rfl, q1, f1⟩
  have hx1 := f1.k hx (fun z => by simp only [isR] at z; omega)
  have og1 := og.keep f1 (fun z y => by simp only [isR] at y; omega)
  have w1 := f1.w
  have hz1 := f1.z
  refine r_ifeq rfl (fun c => ?_) (fun c => ?_)
  · have c0 : sgF T e a 40 = false := bI_0.mp c
    rw [c0, if_neg (by decide)] at q1
    refine r_aload_1 rfl ?_
    refine r_globR rfl g19 ?_
    refine r_invvE rfl rfl q1.1 rfl rfl (by omega) (c_passes w1 t q1 hs (s19.keep f1 (fun z y => by simp only [isR] at y; omega)).sa (by have := s19.lt; omega)) ?_
    rintro v h2 ⟨rfl, q2, f2⟩
    rw [wd_sk, wb_sk, sk_idem] at q2
    rw [wd_sk]
    have hx2 := f2.k hx1 (fun z => by simp only [isR] at z; omega)
    have og2 := og1.keep f2 (fun z y => by simp only [isR] at y; omega)
    have w2 := f2.w
    have F2 : HC (isR (x + 46)) 1 h h2 := (HF.trans f1 f2).mono (fun _ z => z) (by omega) (by omega)
    have hz2 := F2.z
    refine r_ifeq rfl (fun c9 => ?_) (fun c9 => ?_)
    · have c1 : wdF T e a w_not = false := bI_0.mp c9
      rw [c1, if_neg (by decide)] at q2
      have ea : atomB T e it a = plainF T e a := by unfold atomB; rw [if_neg (by rw [c0]; decide), if_neg (by rw [c1]; decide)]
      rw [ea]
      refine wp_mono (fun R hR => ?_) (c_plain (by omega) w hbs hx47 t w2 og2 hx2 q2 ha F2)
      rcases hR with ⟨v, h', e1, p, c, a', e2, e3, e4, e5⟩ | hR
      · exact Or.inl ⟨v, h', e1, p, c, a', e2, e3, e4.le (by omega), e5⟩
      · exact Or.inr hR
    · have c1 : wdF T e a w_not = true := bI_n0.mp c9
      have hl : wbF T e a = skF T e a + 3 := wd_len c1
      rw [c1, if_pos rfl] at q2
      refine r_aload_1 rfl ?_
      refine r_invvS rfl rfl q2.1 rfl rfl rfl (by omega) (c_goesDeeper gt w2 hD q2) ?_ ?_
      · rintro h3 ⟨hD0, q3, f3⟩
        cases hit : it with
        | none => exact absurd (h0z hit) hD0
        | some fi =>
          obtain ⟨hD1, N, d1, d2, hN, hd1, hd2, IA, IC⟩ := IT fi hit
          have ea : atomB T e (some fi) a = rB (fi (wbF T e a)) fun c a => .inr (fun F => !c F, a) := by unfold atomB; rw [if_neg (by rw [c0]; decide), if_pos c1]
          rw [ea]
          have hx3 := f3.k hx2 (fun z => by simp only [isR] at z; omega)
          have og3 := og2.keep f3 (fun z y => by simp only [isR] at y; omega)
          have F3 : HC (isR (x + 46)) 1 h h3 := (HF.trans F2 f3).mono (fun _ z => z) (by omega) (by omega)
          have hz3 := F3.z
          refine r_aload_0 rfl ?_
          refine r_k (nx := 61) (L' := _) (rest := []) rfl (am_invv_ok (n := 0) (As := []) rfl hx3 rfl rfl) hd1 (IA h3 _ _ f3.w og3 hx3 q3 hb) ?_
          rintro R (⟨v, h4, rfl, p, c4, a4, e4, rfl, hp, hpn, ha4, hae, ⟨bg4, q4⟩, f4⟩ | ⟨c9, h4, rfl, z, ez, pz⟩)
          · rw [e4]
            show Wp G d mt_X1_atom 61 _ (.ref p :: []) h4 _
            have w4 := f4.w
            have F4 : HC (isR (x + 46)) (3 * (a4 - a) - 2) h h4 := (HF.trans F3 f4).mono (fun _ z => z) (by omega) (by omega)
            refine r_astore_2 rfl ?_
            refine r_aload_1 rfl ?_
            refine r_invvF rfl rfl q4.1 rfl rfl (by omega) (c_comesUp w4 q4) ?_
            rintro h5 ⟨q5, f5⟩
            have w5 := f5.w
            have F5 : HC (isR (x + 46)) (3 * (a4 - a) - 2) h h5 := (HF.trans F4 f5).mono (fun _ z => z) (by omega) (by omega)
            have hz5 := F5.z
            have hz45 := f5.z
            have F6 : HF (isR (x + 46)) (10 * (3 * (a4 - a) - 2) + 1) (1600 * (3 * (a4 - a) - 2) + 1) h (am_new h5 (.inr (11, [.null])) 1) := HF.newN F5
            have e6 : (am_new h5 (.inr (11, [.null])) 1).2.1 = h5.2.1 + 1 := rfl
            have hn5 := w5 _ _ q5.2
            have hz34 := f4.z
            refine r_new rfl rfl ?_
            refine r_dupR rfl ?_
            refine r_aload_2 rfl ?_
            refine r_inviF rfl rfl rfl (by omega) (c_notInit am_new_at) ?_
            rintro h6 rfl
            refine r_aret rfl ?_
            have k6 : SK (Sv bs h3.2.1 h4.2.1) h4 (am_set (am_new h5 (.inr (11, [.null])) 1) h5.2.1 (.inr (11, [.ref p]))) := fun z y hzS hz => by
              have h1 := f5.k hz (fun k => by simp only [isR] at k; rcases hzS with y | y <;> omega)
              have h2 := am_new_k (n := 1) (e := .inr (11, [.null])) w5 h1
              exact am_set_k h2 (Nat.ne_of_lt (w5 _ _ h1))
            refine Or.inl ⟨_, _, rfl, h5.2.1, _, _, rfl, rfl, ⟨Or.inr ⟨hz5, Nat.lt_succ_self _⟩, Or.inr (Or.inr (Or.inl ⟨p, c4, am_set_at, ?_, fun _ => rfl⟩))⟩, hz5, by omega, hae, ⟨bg4, ?_, ?_⟩, (HF.setN F6 am_new_at w hz5).mono (fun _ z => z) (by omega) (by omega)⟩
            · exact (CdA.keep k6 (Sv.mono (by omega) (show h4.2.1 ≤ h5.2.1 + 1 by omega)) hp).le (by omega)
            · have := am_set_k (e := .inr (11, [.ref p])) (am_new_k (n := 1) (e := .inr (11, [.null])) w5 q5.1) (show x + 46 ≠ h5.2.1 by omega)
              rw [show nI (6 - (D - 1)) - 1 = nI (6 - D) by rw [show 6 - (D - 1) = (6 - D) + 1 by omega, nI_pred]] at this
              exact this
            · exact am_set_k (am_new_k w5 q5.2) (by omega)
          · show condQ T f G bs x len e ft (nI (6 - D)) 0 (2 * D + 1) a h _ (.inr (c9, h4))
            rw [ez]
            exact Or.inr ⟨_, _, rfl, z, rfl, pz.mono F3 (by omega) (by omega)⟩
      · rintro c9 h3 ⟨hD0, p3⟩
        have hit : it = none := by
          cases hit : it with
          | none => rfl
          | some fi => exact absurd (IT fi hit).1 (by omega)
        subst hit
        have ea : atomB T e none a = .inl (skF T e a) := by unfold atomB; rw [if_neg (by rw [c0]; decide), if_pos c1]
        rw [ea]
        exact Or.inr ⟨_, _, rfl, _, rfl, p3.mono F2 (by omega) (by omega)⟩
  · have c1 : sgF T e a 40 = true := bI_n0.mp c
    have hlt : skF T e a < e := by
      unfold sgF at c1
      simp only [Bool.and_eq_true, decide_eq_true_eq] at c1
      exact c1.1
    rw [c1, if_pos rfl] at q1
    refine r_aload_1 rfl ?_
    refine r_invvS rfl rfl q1.1 rfl rfl rfl (by omega) (c_goesDeeper gt w1 hD q1) ?_ ?_
    · rintro h3 ⟨hD0, q3, f3⟩
      cases hit : it with
      | none => exact absurd (h0z hit) hD0
      | some fi =>
        obtain ⟨hD1, N, d1, d2, hN, hd1, hd2, IA, IC⟩ := IT fi hit
        have ea : atomB T e (some fi) a = rB (orF T e fi (skF T e a + 1)) fun c a => closeF T e c a := by unfold atomB; rw [if_pos c1]
        rw [ea]
        have hx3 := f3.k hx1 (fun z => by simp only [isR] at z; omega)
        have og3 := og1.keep f3 (fun z y => by simp only [isR] at y; omega)
        have F3 : HC (isR (x + 46)) 0 h h3 := (HF.trans f1 f3).mono (fun _ z => z) (by omega) (by omega)
        have hz3 := F3.z
        refine r_aload_0 rfl ?_
        refine r_k (nx := 22) (L' := _) (rest := []) rfl (am_invv_ok (n := 0) (As := []) rfl hx3 rfl rfl) hd2 (IC h3 _ _ f3.w og3 hx3 q3 (by omega)) ?_
        rintro R (⟨v, h4, rfl, p, c4, a4, e4, rfl, hp, hpn, ha4, hae, ⟨bg4, q4⟩, f4⟩ | ⟨c9, h4, rfl, z, ez, pz⟩)
        · rw [e4]
          show Wp G d mt_X1_atom 22 _ (.ref p :: []) h4 _
          have w4 := f4.w
          have F4 : HC (isR (x + 46)) (3 * (a4 - a)) h h4 := (HF.trans F3 f4).mono (fun _ z => z) (by omega) (by omega)
          refine r_astore_2 rfl ?_
          refine r_aload_1 rfl ?_
          refine r_invvF rfl rfl q4.1 rfl rfl (by omega) (c_comesUp w4 q4) ?_
          rintro h5 ⟨q5, f5⟩
          have w5 := f5.w
          have F5 : HC (isR (x + 46)) (3 * (a4 - a)) h h5 := (HF.trans F4 f5).mono (fun _ z => z) (by omega) (by omega)
          rw [show nI (6 - (D - 1)) - 1 = nI (6 - D) by rw [show 6 - (D - 1) = (6 - D) + 1 by omega, nI_pred]] at q5
          refine r_aload_1 rfl ?_
          refine r_push rfl ?_
          refine r_invvE rfl rfl q5.1 rfl rfl (by omega) (c_sign w5 t q5 hae ⟨41, by decide, rfl⟩ (by decide)) ?_
          rintro v h6 ⟨rfl, q6, f6⟩
          have w6 := f6.w
          have F6 : HC (isR (x + 46)) (3 * (a4 - a)) h h6 := (HF.trans F5 f6).mono (fun _ z => z) (by omega) (by omega)
          have hs6 := sk_le T hae
          have hg6 := sk_ge T e a4
          refine r_ifne rfl (fun c8 => ?_) (fun c8 => ?_)
          · have c2 : sgF T e a4 41 = true := bI_n0.mp c8
            have hlt2 : skF T e a4 < e := by
              unfold sgF at c2
              simp only [Bool.and_eq_true, decide_eq_true_eq] at c2
              exact c2.1
            rw [c2, if_pos rfl] at q6
            have ec : rB (.inr (c4, a4)) (fun c a => closeF T e c a) = .inr (c4, skF T e a4 + 1) := by show closeF T e c4 a4 = _; unfold closeF; rw [if_pos c2]
            rw [ec]
            have k6 : SK (Sv bs h3.2.1 h4.2.1) h4 h6 := fun z y hzS hz => by
              have hno : ¬ isR (x + 46) z := fun k => by simp only [isR] at k; rcases hzS with y | y <;> omega
              exact f6.k (f5.k hz hno) hno
            have hz46 : h4.2.1 ≤ h6.2.1 := Nat.le_trans f5.z f6.z
            refine r_aload_2 rfl ?_
            refine r_aret rfl ?_
            exact Or.inl ⟨_, _, rfl, p, c4, _, rfl, rfl, (CdA.keep k6 (Sv.mono hz3 hz46) hp).le (by omega), by omega, by omega, by omega, ⟨_, q6⟩, F6.mono (fun _ z => z) (by omega) (by omega)⟩
          · have c2 : sgF T e a4 41 = false := bI_0.mp c8
            rw [c2, if_neg (by decide)] at q6
            have ec : rB (.inr (c4, a4)) (fun c a => closeF T e c a) = .inl (skF T e a4) := by show closeF T e c4 a4 = _; unfold closeF; rw [if_neg (by rw [c2]; decide)]
            rw [ec]
            refine r_aload_1 rfl ?_
            refine r_invvE rfl rfl q6.1 rfl rfl (by omega) (c_wrong (P := fun _ => False) gt w6) ?_
            rintro v h7 ⟨rfl, ⟨fs, o7⟩, f7⟩
            refine r_athrow rfl o7 rfl rfl ?_
            exact Or.inr ⟨_, _, rfl, _, rfl, rfl, ⟨_, _, q6.keep f7 (fun z => z) (fun z => z)⟩, (HF.trans F6 (f7.mono (fun _ z => z.elim) (Nat.le_refl _) (Nat.le_refl _))).mono (fun _ z => z) (by omega) (by omega)⟩
        · show condQ T f G bs x len e ft (nI (6 - D)) 0 (2 * D + 1) a h _ (.inr (c9, h4))
          rw [ez]
          exact Or.inr ⟨_, _, rfl, z, rfl, pz.mono F3 (by omega) (by omega)⟩
    · rintro c9 h3 ⟨hD0, p3⟩
      have hit : it = none := by
        cases hit : it with
        | none => rfl
        | some fi => exact absurd (IT fi hit).1 (by omega)
      subst hit
      have ea : atomB T e none a = .inl (skF T e a) := by unfold atomB; rw [if_pos c1]
      rw [ea]
      exact Or.inr ⟨_, _, rfl, _, rfl, p3.mono f1 (by omega) (by omega)⟩
theorem c_orOf {D N dA : Nat} {it : Nat → RD Cd} (hbs : bs ≤ x) (t : TX T f e) (hA : 12 ≤ dA) (IA : condC T f G bs x len e hi ft dp 0 N dA m_X1_atom it) : condC T f G bs x len e hi ft dp 4 (N + 2) (dA + 2) m_X1_cond (orF T e it) :=
  c_cond (by omega) (Nat.lt_succ_self _) (by omega) (c_allOf (by omega) (Nat.lt_succ_self _) (by omega) IA hbs t) hbs t
/-- an atom, D deeper yet -/
theorem c_atom (hbs : bs ≤ x) (t : TX T f e) : ∀ D, D ≤ 6 → condC T f G bs x len e hi ft (nI (6 - D)) 0 (2 * D + 1) (13 + 3 * D) m_X1_atom (atomF T e D)
  | 0, hD => c_atomB (by omega) hD hbs t (fun _ => rfl) (fun fi q => nomatch q)
  | D + 1, hD => c_atomB (by omega) hD hbs t (fun q => nomatch q) (fun fi q => by
    cases q
    have IA := c_atom hbs t D (by omega)
    exact ⟨by omega, 2 * D + 1, 13 + 3 * D, 13 + 3 * D + 2, by omega, by omega, by omega, IA, c_orOf (D := D) hbs t (by omega) IA⟩)
theorem c_condTop (hbs : bs ≤ x) (t : TX T f e) : condC T f G bs x len e hi ft 0 4 15 33 m_X1_cond (orF T e (atomF T e 6)) := c_orOf (D := 6) hbs t (by omega) (c_atom hbs t 6 (by omega))
end
