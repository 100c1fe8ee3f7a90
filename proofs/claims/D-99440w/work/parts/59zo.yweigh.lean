/-! SCALES, WEIGH: the model -/
set_option maxRecDepth 100000
theorem hi11 : ∀ k, k < 2048 → nI k >>> ((10 : Int32) &&& 31) = nI (k / 1024) ∧ nI k &&& 1023 = nI (k % 1024) ∧ ¬ nI k = -1 := by decide +kernel
theorem or10 : ∀ a, a < 1024 → (a ||| 1024) / 1024 = 1 ∧ (a ||| 1024) % 1024 = a ∧ a / 1024 = 0 ∧ a % 1024 = a := by decide +kernel
theorem smN_pad {f : Nat → Nat} {s : Nat} : ∀ n, (∀ k, s ≤ k → k < s + n → f k = 0) → smN f (s + n) = smN f s
  | 0, _ => rfl
  | n + 1, h => by rw [← Nat.add_assoc, smN, smN_pad n (fun k h1 h2 => h k h1 (by omega)), h _ (by omega) (by omega), Nat.add_zero]
/-- the case of a number -/
def ozN (k : Nat) : Option Nat := if k = 10 then none else some k
theorem cs_cnt {m T : Nat → Int32} {n : Nat} (hS : nS m ≤ 10) {f : Option Nat → Bool} : smN (fun k => if (csB m T n k && f (ozN k)) = true then 1 else 0) 11 = cnN m (fun o => caseB m T n o && f o) := by
  have e1 : smN (fun k => if (csB m T n k && f (ozN k)) = true then 1 else 0) 10 = smN (fun s => if (caseB m T n (some s) && f (some s)) = true then 1 else 0) (nS m) := by
    have : 10 = nS m + (10 - nS m) := by omega
    rw [this, smN_pad _ (fun k h1 h2 => by
      have : csB m T n k = false := by unfold csB; rw [if_neg (by omega), if_neg (by omega)]
      simp only [this, Bool.false_and]; rfl)]
    exact smN_congr fun k hk => by
      have e : csB m T n k = caseB m T n (some k) := by unfold csB; rw [if_pos hk]
      have e' : ozN k = some k := by unfold ozN; rw [if_neg (by omega)]
      simp only [e, e']
  have e2 : csB m T n 10 = caseB m T n none := by unfold csB; rw [if_neg (by omega), if_pos rfl]
  have e3 : ozN 10 = none := rfl
  unfold cnN
  rw [smN, e1]
  simp only [e2, e3]
  omega
theorem bits_cs {m T : Nat → Int32} {n : Nat} (hS : nS m ≤ 10) : bitsF (csI m T n) = nI (cnN m (caseB m T n)) := by
  have e := cs_cnt (m := m) (T := T) (n := n) hS (f := fun _ => true)
  simp only [Bool.and_true] at e
  unfold bitsF csI
  have g : ∀ k, k < 31 → (bsF (csB m T n) 11 >>> (nI k &&& 31)) &&& 1 = nI (if (decide (k < 11) && csB m T n k) = true then 1 else 0) := fun k hk => by
    have t := tb_bsF (c := csB m T n) (n := 11) (by decide) k (by omega)
    have a := and1 (bsF (csB m T n) 11 >>> (nI k &&& 31))
    rw [tb_shr _ (by omega), t] at a
    by_cases z : (decide (k < 11) && csB m T n k) = true
    · rw [if_pos z, a.mpr z]; rfl
    · rw [if_neg z]
      apply tb_ext
      intro i hi
      rw [tb_and, tb_1 i hi, show (nI 0) = (0 : Int32) from rfl, tb_0]
      by_cases w : i = 0
      · subst w; rw [tb_shr _ (by omega), t, Bool.eq_false_iff.mpr z]; rfl
      · rw [decide_eq_false w, Bool.and_false]
  rw [smF_N g, ← e, show 31 = 11 + 20 from rfl, smN_pad 20 (fun k h1 h2 => by rw [decide_eq_false (by omega)]; rfl)]
  congr 1
theorem cs_isF {m T : Nat → Int32} {n k : Nat} (hk : k < 11) : isF (csI m T n) (nI k) = csB m T n k := by
  unfold csI
  rw [isF_bsF (by decide) (by omega), decide_eq_true hk, Bool.true_and]
theorem csB_case {m T : Nat → Int32} {n k : Nat} (h : csB m T n k = true) : caseB m T n (ozN k) = true ∧ (∀ s, ozN k = some s → s < nS m) ∧ k ≤ 10 ∨ 10 < nS m := by
  unfold csB at h
  by_cases c : k < nS m
  · rw [if_pos c] at h
    by_cases d : k < 10
    · refine Or.inl ⟨?_, ?_, by omega⟩
      · unfold ozN; rw [if_neg (by omega)]; exact h
      · intro s es; unfold ozN at es; rw [if_neg (by omega)] at es; cases es; exact c
    · exact Or.inr (by omega)
  · rw [if_neg c] at h
    by_cases d : k = 10
    · rw [if_pos d] at h
      exact Or.inl ⟨by unfold ozN; rw [if_pos d]; exact h, (fun s es => by unfold ozN at es; rw [if_pos d] at es; cases es), by omega⟩
    · rw [if_neg d] at h; cases h
section
variable {G : am_G} {h : am_H} {y : Nat} {m g T : Nat → Int32} {n : Nat}
theorem c_yScales (q : MM h y g m) (v : VR m) (qt : h.1 (y + 5) = some (.inl (0, 400, .inl T))) (tb : TB T) (e8 : g 8 = nI n) (hn : n ≤ 400) (no : Int32) : Uc G 7 m_X6_scales [.ref y, .int no] h (.int (qScales m T n no).2) (mh h y (upd (upd g 8 0) 0 (nI (qScales m T n no).1))) := by
  have o := q.1
  have hS := v.ss.2
  have cs := c_yCases (G := G) q v qt tb e8 hn
  have o2 : (mh h y (upd g 8 0)).1 y = some (mcell y (upd g 8 0)) := am_set_at
  have oo : ∀ k, (mh h y (upd (upd g 8 0) 0 (nI k))).1 y = some (mcell y (upd (upd g 8 0) 0 (nI k))) := fun k => am_set_at
  have o3 := oo 0; have o4 := oo 1
  refine wc_in mt_X6_scales rfl (L := [.ref y, .int no, am_un]) rfl ?_
  unfold qScales
  cases gd : goodB m T n with
  | false =>
    rw [if_pos rfl]
    rw [gd, if_neg (by decide)] at cs
    refine r_aload_0 rfl ?_
    refine r_invvU rfl rfl (o) rfl rfl (by decide) (cs) ?_
    refine r_istore_2 rfl ?_
    refine r_aload_0 rfl ?_
    refine r_iload_2 rfl ?_
    refine r_push rfl ?_
    refine r_icneF rfl (rfl) ?_
    refine r_push rfl ?_
    refine r_goto rfl ?_
    refine r_puti rfl (o2) rfl ?_
    rw [mo_0, am_set_set]
    refine r_aload_0 rfl ?_
    refine r_getf rfl (o4) (by rfl) ?_
    refine r_ifleF rfl (by rw [upd_eq]; decide) ?_
    refine r_push rfl ?_
    refine r_iret rfl ?_
    rfl
  | true =>
    rw [if_neg (by decide)]
    rw [gd, if_pos rfl] at cs
    have eN : csI m T n = nI (bsN (csB m T n) 11) := bsF_N (by decide)
    have hl : bsN (csB m T n) 11 < 2048 := bsN_lt
    have ha : bsN (csB m T n) 10 < 1024 := bsN_lt
    obtain ⟨h1, h2, h3⟩ := hi11 _ hl
    obtain ⟨p1, p2, p3, p4⟩ := or10 _ ha
    have e10 : csB m T n 10 = caseB m T n none := by unfold csB; rw [if_neg (by omega), if_pos rfl]
    have eL : nI (bsN (csB m T n) 10) = bsF (fun s => caseB m T n (some s)) (nS m) := by
      rw [← bsF_N (by decide)]
      have : 10 = nS m + (10 - nS m) := by omega
      rw [this, bsF_pad _ (fun k h1 h2 => by unfold csB; rw [if_neg (by omega), if_neg (by omega)])]
      exact bsF_congr fun k hk => by unfold csB; rw [if_pos hk]
    have both : bsN (csB m T n) 11 / 1024 = (if caseB m T n none = true then 1 else 0) ∧ bsN (csB m T n) 11 % 1024 = bsN (csB m T n) 10 := by
      rw [bsN, e10]
      cases caseB m T n none with
      | true => rw [if_pos rfl, if_pos rfl]; exact ⟨p1, p2⟩
      | false => rw [if_neg (by decide), if_neg (by decide), Nat.or_zero]; exact ⟨p3, p4⟩
    rw [eN] at cs
    by_cases c : no = 0
    · rw [if_pos c]
      refine r_aload_0 rfl ?_
      refine r_invvU rfl rfl (o) rfl rfl (by decide) (cs) ?_
      refine r_istore_2 rfl ?_
      refine r_aload_0 rfl ?_
      refine r_iload_2 rfl ?_
      refine r_push rfl ?_
      refine r_icneT rfl (h3) ?_
      refine r_push rfl ?_
      refine r_puti rfl (o2) rfl ?_
      rw [mo_0, am_set_set]
      refine r_aload_0 rfl ?_
      refine r_getf rfl (o3) (by rfl) ?_
      refine r_ifleT rfl (by rw [upd_eq]; decide) ?_
      refine r_iload_1 rfl ?_
      refine r_ifeqT rfl (c) ?_
      refine r_iload_2 rfl ?_
      refine r_push rfl ?_
      refine r_iand rfl ?_
      rw [h2, both.2, eL]
      refine r_iret rfl ?_
      rfl
    · rw [if_neg c]
      refine r_aload_0 rfl ?_
      refine r_invvU rfl rfl (o) rfl rfl (by decide) (cs) ?_
      refine r_istore_2 rfl ?_
      refine r_aload_0 rfl ?_
      refine r_iload_2 rfl ?_
      refine r_push rfl ?_
      refine r_icneT rfl (h3) ?_
      refine r_push rfl ?_
      refine r_puti rfl (o2) rfl ?_
      rw [mo_0, am_set_set]
      refine r_aload_0 rfl ?_
      refine r_getf rfl (o3) (by rfl) ?_
      refine r_ifleT rfl (by rw [upd_eq]; decide) ?_
      refine r_iload_1 rfl ?_
      refine r_ifeqF rfl (c) ?_
      refine r_iload_2 rfl ?_
      refine r_push rfl ?_
      refine r_ishr rfl ?_
      rw [h1, both.1]
      refine r_goto rfl ?_
      refine r_iret rfl ?_
      cases caseB m T n none <;> rfl
theorem c_yWeigh (q : MM h y g m) (v : VR m) (qt : h.1 (y + 5) = some (.inl (0, 400, .inl T))) (tb : TB T) (e8 : g 8 = nI n) (hn : n ≤ 400) : Uc G 7 m_X6_weigh [.ref y] h (.int (qWeigh m T n).2) (mh h y (upd (upd g 8 0) 0 (nI (qWeigh m T n).1))) := by
  have o := q.1
  have hS := v.ss.2
  have hP := v.pp.2
  have e3 := v.pp.1
  have cs := c_yCases (G := G) q v qt tb e8 hn
  have o2 : (mh h y (upd g 8 0)).1 y = some (mcell y (upd g 8 0)) := am_set_at
  have oo : ∀ k, (mh h y (upd (upd g 8 0) 0 (nI k))).1 y = some (mcell y (upd (upd g 8 0) 0 (nI k))) := fun k => am_set_at
  have o3 := oo 0; have o4 := oo 1
  refine wc_in mt_X6_weigh rfl (L := [.ref y, am_un, am_un, am_un, am_un, am_un, am_un, am_un, am_un, am_un]) rfl ?_
  unfold qWeigh
  cases gd : goodB m T n with
  | false =>
    rw [if_pos rfl]
    rw [gd, if_neg (by decide)] at cs
    refine r_aload_0 rfl ?_
    refine r_invvU rfl rfl (o) rfl rfl (by decide) (cs) ?_
    refine r_istore_1 rfl ?_
    refine r_aload_0 rfl ?_
    refine r_iload_1 rfl ?_
    refine r_push rfl ?_
    refine r_icneF rfl (rfl) ?_
    refine r_push rfl ?_
    refine r_goto rfl ?_
    refine r_puti rfl (o2) rfl ?_
    rw [mo_0, am_set_set]
    refine r_aload_0 rfl ?_
    refine r_getf rfl (o4) (by rfl) ?_
    refine r_ifgtT rfl (by rw [upd_eq]; decide) ?_
    refine r_aload_0 rfl ?_
    refine r_getf rfl (o4) (by rfl) ?_
    refine r_ifleF rfl (by rw [upd_eq]; decide) ?_
    refine r_push rfl ?_
    refine r_goto rfl ?_
    refine r_iret rfl ?_
    rfl
  | true =>
    rw [if_neg (by decide)]
    rw [gd, if_pos rfl] at cs
    have eN : csI m T n = nI (bsN (csB m T n) 11) := bsF_N (by decide)
    have h3 : ¬ csI m T n = -1 := by rw [eN]; exact (hi11 _ bsN_lt).2.2
    have hN := cnN_le hS (f := caseB m T n)
    by_cases cN : cnN m (caseB m T n) < 2
    · have z0 : ∀ a c, pbO m T n a c = none := fun a c => if_pos cN
      have z1 : ∀ a k, wIn (pbO m T n) a none k = none := fun a k => by
        induction k with
        | zero => rfl
        | succ k ih => rw [wIn, ih, z0]; rfl
      have z2 : ∀ a, wOut (pbO m T n) (nP m) a = none := fun a => by
        induction a with
        | zero => rfl
        | succ a ih => rw [wOut, ih, z1]
      rw [z2]
      refine r_aload_0 rfl ?_
      refine r_invvU rfl rfl (o) rfl rfl (by decide) (cs) ?_
      refine r_istore_1 rfl ?_
      refine r_aload_0 rfl ?_
      refine r_iload_1 rfl ?_
      refine r_push rfl ?_
      refine r_icneT rfl (h3) ?_
      refine r_push rfl ?_
      refine r_puti rfl (o2) rfl ?_
      rw [mo_0, am_set_set]
      refine r_aload_0 rfl ?_
      refine r_getf rfl (o3) (by rfl) ?_
      refine r_ifgtF rfl (by rw [upd_eq]; decide) ?_
      refine r_iload_1 rfl ?_
      refine r_invP_1 rfl rfl (by decide) (c_mbits _) ?_
      rw [bits_cs hS]
      refine r_push rfl ?_
      refine r_icgeF rfl (nI_lt cN (by decide)) ?_
      refine r_aload_0 rfl ?_
      refine r_getf rfl (o3) (by rfl) ?_
      refine r_ifleT rfl (by rw [upd_eq]; decide) ?_
      refine r_push rfl ?_
      refine r_iret rfl ?_
      rfl
    · have pe : ∀ a c, pbO m T n a c = some (max (cnN m (sdB m T n a c 0)) (max (cnN m (sdB m T n a c 1)) (cnN m (sdB m T n a c 2)))) := fun a c => if_neg cN
      have hF : ∀ a c k, pbO m T n a c = some k → k ≤ 11 := fun a c k e => pbO_le hS e
      refine r_aload_0 rfl ?_
      refine r_invvU rfl rfl (o) rfl rfl (by decide) (cs) ?_
      refine r_istore_1 rfl ?_
      refine r_aload_0 rfl ?_
      refine r_iload_1 rfl ?_
      refine r_push rfl ?_
      refine r_icneT rfl (h3) ?_
      refine r_push rfl ?_
      refine r_puti rfl (o2) rfl ?_
      rw [mo_0, am_set_set]
      refine r_aload_0 rfl ?_
      refine r_getf rfl (o3) (by rfl) ?_
      refine r_ifgtF rfl (by rw [upd_eq]; decide) ?_
      refine r_iload_1 rfl ?_
      refine r_invP_1 rfl rfl (by decide) (c_mbits _) ?_
      rw [bits_cs hS]
      refine r_push rfl ?_
      refine r_icgeT rfl (nI_le (a := 2) (by omega) (by omega)) ?_
      have mm : MM (mh h y (upd (upd g 8 0) 0 (nI 0))) y (upd (upd g 8 0) 0 (nI 0)) m := ⟨am_set_at, am_set_k q.2 (by omega)⟩
      show Wp G 7 mt_X6_weigh 47 _ _ (mh h y (upd (upd g 8 0) 0 (nI 0))) _
      generalize mh h y (upd (upd g 8 0) 0 (nI 0)) = h1 at *
      have o := mm.1
      have om := mm.2
      have side : ∀ (a c k most : Nat) (best least : Int32) (a8 a9 : Value) (Q : am_O → Prop), a < 6 ∧ c < 6 ∧ a ≠ c → k < 3 → most ≤ 11 → (∀ a8 a9, Wp G 7 mt_X6_weigh 90 [.ref y, .int (csI m T n), .int best, .int least, .int (nI a), .int (nI c), .int (nI (max most (cnN m (sdB m T n a c k)))), .int (nI (k + 1)), a8, a9] [] h1 Q) → Wp G 7 mt_X6_weigh 90 [.ref y, .int (csI m T n), .int best, .int least, .int (nI a), .int (nI c), .int (nI most), .int (nI k), a8, a9] [] h1 Q := by
        intro a c k most best least a8 a9 Q hac hk hm kont
        have cnt : smN (fun z => if (csB m T n z && decide (skN m a c (ozN z) = k)) = true then 1 else 0) 11 = cnN m (sdB m T n a c k) := cs_cnt hS (f := fun o => decide (skN m a c o = k))
        refine r_iload_7 rfl ?_
        refine r_push rfl ?_
        refine r_icgeF rfl (nI_lt hk (by decide)) ?_
        refine r_push rfl ?_
        refine r_istore_8 rfl ?_
        refine r_push rfl ?_
        refine r_istore_9 rfl ?_
        refine wp_for 11 (fun j => [.ref y, .int (csI m T n), .int best, .int least, .int (nI a), .int (nI c), .int (nI most), .int (nI k), .int (nI (smN (fun z => if (csB m T n z && decide (skN m a c (ozN z) = k)) = true then 1 else 0) j)), .int (nI j)]) (fun j hj kk => ?_) ?_
        · have nx : smN (fun z => if (csB m T n z && decide (skN m a c (ozN z) = k)) = true then 1 else 0) (j + 1) = smN (fun z => if (csB m T n z && decide (skN m a c (ozN z) = k)) = true then 1 else 0) j + (if (csB m T n j && decide (skN m a c (ozN j) = k)) = true then 1 else 0) := rfl
          rw [nx] at kk
          have ifj : isF (csI m T n) (nI j) = csB m T n j := cs_isF hj
          have le10 : nI j ≤ 10 := nI_le (b := 10) (by omega) (by decide)
          cases cb : csB m T n j with
          | false =>
            rw [cb] at kk ifj
            refine r_iload_9 rfl ?_
            refine r_push rfl ?_
            refine r_icgtF rfl (le10) ?_
            refine r_iload_8 rfl ?_
            refine r_iload_1 rfl ?_
            refine r_iload_9 rfl ?_
            refine r_invP_2 rfl rfl (by decide) (c_isOf _ _) ?_
            refine r_ifeqT rfl (by rw [ifj]; rfl) ?_
            refine r_push rfl ?_
            refine r_iadd rfl ?_
            refine r_istore_8 rfl ?_
            refine r_iinc_9 rfl ?_
            refine r_goto rfl ?_
            rw [nI_1, Int32.add_zero]
            exact kk
          | true =>
            rw [cb] at kk ifj
            have cc : caseB m T n (ozN j) = true ∧ (∀ s, ozN j = some s → s < nS m) := by
              rcases csB_case cb with z | z
              · exact ⟨z.1, z.2.1⟩
              · omega
            have hkk : HOK m (ozN j) := (wnB_hok cc.2).mp (by have := cc.1; unfold caseB at this; rw [Bool.and_eq_true] at this; exact this.1)
            have sk := c_ySinks (G := G) mm v hac hkk
            have body : ∀ w, w = hoI (ozN j) → Wp G 7 mt_X6_weigh 138 [.ref y, .int (csI m T n), .int best, .int least, .int (nI a), .int (nI c), .int (nI most), .int (nI k), .int (nI (smN (fun z => if (csB m T n z && decide (skN m a c (ozN z) = k)) = true then 1 else 0) j)), .int (nI j)] [.int w, .int (nI c), .int (nI a), .ref y, .int (nI (smN (fun z => if (csB m T n z && decide (skN m a c (ozN z) = k)) = true then 1 else 0) j))] h1 Q := by
              rintro w rfl
              have s3 := skN_lt (m := m) (a := a) (c := c) (o := ozN j)
              by_cases e : skN m a c (ozN j) = k
              · rw [decide_eq_true e] at kk
                refine r_invvP_3 rfl (o) rfl rfl (by decide) (sk) ?_
                refine r_iload_7 rfl ?_
                refine r_icneF rfl (by rw [e]) ?_
                refine r_push rfl ?_
                refine r_goto rfl ?_
                refine r_iadd rfl ?_
                refine r_istore_8 rfl ?_
                refine r_iinc_9 rfl ?_
                refine r_goto rfl ?_
                rw [nI_1, nI_1]
                exact kk
              · rw [decide_eq_false e] at kk
                refine r_invvP_3 rfl (o) rfl rfl (by decide) (sk) ?_
                refine r_iload_7 rfl ?_
                refine r_icneT rfl (fun z => e (nI_inj (by omega) (by omega) z)) ?_
                refine r_push rfl ?_
                refine r_iadd rfl ?_
                refine r_istore_8 rfl ?_
                refine r_iinc_9 rfl ?_
                refine r_goto rfl ?_
                rw [nI_1, Int32.add_zero]
                exact kk
            by_cases e : j = 10
            · refine r_iload_9 rfl ?_
              refine r_push rfl ?_
              refine r_icgtF rfl (le10) ?_
              refine r_iload_8 rfl ?_
              refine r_iload_1 rfl ?_
              refine r_iload_9 rfl ?_
              refine r_invP_2 rfl rfl (by decide) (c_isOf _ _) ?_
              refine r_ifeqF rfl (by rw [ifj]; decide) ?_
              refine r_aload_0 rfl ?_
              refine r_iload_4 rfl ?_
              refine r_iload_5 rfl ?_
              refine r_iload_9 rfl ?_
              refine r_push rfl ?_
              refine r_icneF rfl (by rw [e]; rfl) ?_
              refine r_push rfl ?_
              refine r_goto rfl ?_
              exact body _ (by rw [e]; rfl)
            · refine r_iload_9 rfl ?_
              refine r_push rfl ?_
              refine r_icgtF rfl (le10) ?_
              refine r_iload_8 rfl ?_
              refine r_iload_1 rfl ?_
              refine r_iload_9 rfl ?_
              refine r_invP_2 rfl rfl (by decide) (c_isOf _ _) ?_
              refine r_ifeqF rfl (by rw [ifj]; decide) ?_
              refine r_aload_0 rfl ?_
              refine r_iload_4 rfl ?_
              refine r_iload_5 rfl ?_
              refine r_iload_9 rfl ?_
              refine r_push rfl ?_
              refine r_icneT rfl (fun z => e (nI_inj (c := 10) (by omega) (by decide) z)) ?_
              refine r_iload_9 rfl ?_
              exact body _ (by unfold ozN; rw [if_neg e]; rfl)
        · rw [cnt]
          have hc := cnN_le hS (f := sdB m T n a c k)
          refine r_iload_9 rfl ?_
          refine r_push rfl ?_
          refine r_icgtT rfl (by decide) ?_
          refine r_iload_6 rfl ?_
          refine r_iload_8 rfl ?_
          refine r_invP_2 rfl rfl (by decide) (c_greater _ _) ?_
          rw [maxF_nI (by omega) (by omega)]
          refine r_istore_6 rfl ?_
          refine r_iinc_7 rfl ?_
          refine r_goto rfl ?_
          rw [nI_1]
          exact kont _ _
      refine r_push rfl ?_
      refine r_istore_2 rfl ?_
      refine r_push rfl ?_
      refine r_istore_3 rfl ?_
      refine r_push rfl ?_
      refine r_istore_4 rfl ?_
      refine wp_forH (nP m) (fun j L hh => ∃ a5 a6 a7 a8 a9, L = [.ref y, .int (csI m T n), .int (wcV (wOut (pbO m T n) (nP m) j)), .int (wlV 2000000000 (wOut (pbO m T n) (nP m) j)), .int (nI j), a5, a6, a7, a8, a9] ∧ hh = h1) (fun j L hh hj hI kont => ?_) (fun L hh hI => ?_) _ _ ⟨_, _, _, _, _, rfl, rfl⟩
      · obtain ⟨a5, a6, a7, a8, a9, rfl, rfl⟩ := hI
        have ok0 := wOut_ok hF hP j (by omega)
        generalize hst : wOut (pbO m T n) (nP m) j = st at *
        have nxt : wOut (pbO m T n) (nP m) (j + 1) = wIn (pbO m T n) j st (nP m - (j + 1)) := by rw [wOut, hst]
        rw [nxt] at kont
        refine r_iload_4 rfl ?_
        refine r_aload_0 rfl ?_
        refine r_getf rfl (by assumption) (by rfl) ?_
        refine r_push rfl ?_
        refine r_iald rfl (om) (show (3 : Int32) = nI 3 from rfl) (by first | assumption | omega) (by first | decide | omega) ?_
        refine r_icgeF rfl (by rw [e3]; exact nI_lt hj (by omega)) ?_
        refine r_iload_4 rfl ?_
        refine r_push rfl ?_
        refine r_iadd rfl ?_
        refine r_istore_5 rfl ?_
        rw [nI_1]
        refine wp_forH (nP m - (j + 1)) (fun k L h2 => ∃ a6 a7 a8 a9, L = [.ref y, .int (csI m T n), .int (wcV (wIn (pbO m T n) j st k)), .int (wlV 2000000000 (wIn (pbO m T n) j st k)), .int (nI j), .int (nI (j + 1 + k)), a6, a7, a8, a9] ∧ h2 = hh) (fun k L h2 hk hI kk => ?_) (fun L h2 hI => ?_) _ _ ⟨_, _, _, _, rfl, rfl⟩
        · obtain ⟨a6, a7, a8, a9, rfl, rfl⟩ := hI
          have ok1 := wIn_ok (a := j) (P := nP m) ok0 hF hP k (by omega)
          have nx2 : wIn (pbO m T n) j st (k + 1) = wst (wIn (pbO m T n) j st k) (pbO m T n j (j + 1 + k)) (10 * j + (j + 1 + k)) := rfl
          have kk2 := kk
          rw [nx2] at kk2
          have hp := hF j (j + 1 + k) _ (pe j (j + 1 + k))
          rw [pe] at kk2
          generalize wIn (pbO m T n) j st k = s1 at *
          have code : (10 : Int32) * nI j + nI (j + 1 + k) = nI (10 * j + (j + 1 + k)) := by rw [show (10 : Int32) = nI 10 from rfl, nI_mul, nI_add]
          have hac : j < 6 ∧ j + 1 + k < 6 ∧ j ≠ j + 1 + k := by omega
          have h0 := cnN_le hS (f := sdB m T n j (j + 1 + k) 0)
          have h1' := cnN_le hS (f := sdB m T n j (j + 1 + k) 1)
          refine r_iload_5 rfl ?_
          refine r_aload_0 rfl ?_
          refine r_getf rfl (by assumption) (by rfl) ?_
          refine r_push rfl ?_
          refine r_iald rfl (om) (show (3 : Int32) = nI 3 from rfl) (by first | assumption | omega) (by first | decide | omega) ?_
          refine r_icgeF rfl (by rw [e3]; exact nI_lt (by omega) (by omega)) ?_
          refine r_push rfl ?_
          refine r_istore_6 rfl ?_
          refine r_push rfl ?_
          refine r_istore_7 rfl ?_
          refine side _ _ 0 0 _ _ _ _ _ hac (by decide) (by decide) (fun b8 b9 => ?_)
          refine side _ _ 1 _ _ _ _ _ _ hac (by decide) (by omega) (fun b8 b9 => ?_)
          refine side _ _ 2 _ _ _ _ _ _ hac (by decide) (by omega) (fun b8 b9 => ?_)
          rw [show max (max (max 0 (cnN m (sdB m T n j (j + 1 + k) 0))) (cnN m (sdB m T n j (j + 1 + k) 1))) (cnN m (sdB m T n j (j + 1 + k) 2)) = max (cnN m (sdB m T n j (j + 1 + k) 0)) (max (cnN m (sdB m T n j (j + 1 + k) 1)) (cnN m (sdB m T n j (j + 1 + k) 2))) by omega]
          generalize max (cnN m (sdB m T n j (j + 1 + k) 0)) (max (cnN m (sdB m T n j (j + 1 + k) 1)) (cnN m (sdB m T n j (j + 1 + k) 2))) = p at *
          cases s1 with
          | none =>
            refine r_iload_7 rfl ?_
            refine r_push rfl ?_
            refine r_icgeT rfl (by decide) ?_
            refine r_iload_6 rfl ?_
            refine r_iload_3 rfl ?_
            refine r_icltT rfl (show nI p < nI 2000000000 from nI_lt (by omega) (by decide)) ?_
            refine r_iload_6 rfl ?_
            refine r_istore_3 rfl ?_
            refine r_push rfl ?_
            refine r_iload_4 rfl ?_
            refine r_imul rfl ?_
            refine r_iload_5 rfl ?_
            refine r_iadd rfl ?_
            rw [code]
            refine r_istore_2 rfl ?_
            refine r_iinc_5 rfl ?_
            refine r_goto rfl ?_
            rw [nI_1]
            exact kk2 _ _ ⟨_, _, _, _, rfl, rfl⟩
          | some z =>
            obtain ⟨u, d⟩ := z
            have hu : u ≤ 11 := ok1.1
            by_cases c : p < u
            · have ew : wst (some (u, d)) (some p) (10 * j + (j + 1 + k)) = some (p, 10 * j + (j + 1 + k)) := if_pos c
              rw [ew] at kk2
              refine r_iload_7 rfl ?_
              refine r_push rfl ?_
              refine r_icgeT rfl (by decide) ?_
              refine r_iload_6 rfl ?_
              refine r_iload_3 rfl ?_
              refine r_icltT rfl (show nI p < nI u from nI_lt c (by omega)) ?_
              refine r_iload_6 rfl ?_
              refine r_istore_3 rfl ?_
              refine r_push rfl ?_
              refine r_iload_4 rfl ?_
              refine r_imul rfl ?_
              refine r_iload_5 rfl ?_
              refine r_iadd rfl ?_
              rw [code]
              refine r_istore_2 rfl ?_
              refine r_iinc_5 rfl ?_
              refine r_goto rfl ?_
              rw [nI_1]
              exact kk2 _ _ ⟨_, _, _, _, rfl, rfl⟩
            · have ew : wst (some (u, d)) (some p) (10 * j + (j + 1 + k)) = some (u, d) := if_neg c
              rw [ew] at kk2
              refine r_iload_7 rfl ?_
              refine r_push rfl ?_
              refine r_icgeT rfl (by decide) ?_
              refine r_iload_6 rfl ?_
              refine r_iload_3 rfl ?_
              refine r_icltF rfl (show nI u ≤ nI p from nI_le (by omega) (by omega)) ?_
              refine r_goto rfl ?_
              refine r_iinc_5 rfl ?_
              refine r_goto rfl ?_
              rw [nI_1]
              exact kk2 _ _ ⟨_, _, _, _, rfl, rfl⟩
        · obtain ⟨a6, a7, a8, a9, rfl, rfl⟩ := hI
          refine r_iload_5 rfl ?_
          refine r_aload_0 rfl ?_
          refine r_getf rfl (by assumption) (by rfl) ?_
          refine r_push rfl ?_
          refine r_iald rfl (om) (show (3 : Int32) = nI 3 from rfl) (by first | assumption | omega) (by first | decide | omega) ?_
          refine r_icgeT rfl (by rw [e3, show j + 1 + (nP m - (j + 1)) = nP m by omega]; exact Int32.le_refl _) ?_
          refine r_iinc_4 rfl ?_
          refine r_goto rfl ?_
          rw [nI_1]
          exact kont _ _ ⟨_, _, _, _, _, rfl, rfl⟩
      · obtain ⟨a5, a6, a7, a8, a9, rfl, rfl⟩ := hI
        refine r_iload_4 rfl ?_
        refine r_aload_0 rfl ?_
        refine r_getf rfl (by assumption) (by rfl) ?_
        refine r_push rfl ?_
        refine r_iald rfl (om) (show (3 : Int32) = nI 3 from rfl) (by first | assumption | omega) (by first | decide | omega) ?_
        refine r_icgeT rfl (by rw [e3]; exact Int32.le_refl _) ?_
        refine r_iload_2 rfl ?_
        refine r_iret rfl ?_
        rfl
end
