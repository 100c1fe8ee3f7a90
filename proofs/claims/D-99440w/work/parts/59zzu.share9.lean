/-! SHARE: the model answers -/
set_option maxRecDepth 100000
def a6 (f : Nat → Int32) : am_C := .inl (0, 6, .inl f)
def H3 (h : am_H) (y : Nat) (f t u : Nat → Int32) : am_H := am_set (H2 h y f t) (y + 9) (a6 u)
section
variable {G : am_G} {h : am_H} {x y : Nat} {m b g : Nat → Int32} {W R : Nat → Nat} {f t u f' t' u' : Nat → Int32}
theorem H3_7 : (H3 h y f t u).1 (y + 7) = some (i24 f) := am_set_k H2_7 (by omega)
theorem H3_9 : (H3 h y f t u).1 (y + 9) = some (a6 u) := am_set_at
theorem H3_k {a : Nat} {e : am_C} (q : h.1 a = some e) (h7 : a ≠ y + 7) (h8 : a ≠ y + 8) (h9 : a ≠ y + 9) : (H3 h y f t u).1 a = some e := am_set_k (H2_k q h7 h8) h9
theorem H3_s9 : am_set (H3 h y f t u) (y + 9) (a6 u') = H3 h y f t u' := am_set_set
theorem H3_s97 : am_set (am_set (H3 h y f t u) (y + 9) (a6 u')) (y + 7) (i24 f') = H3 h y f' t u' := by
  rw [H3_s9]
  show am_set (am_set (H2 h y f t) (y + 9) (a6 u')) (y + 7) (i24 f') = am_set (H2 h y f' t) (y + 9) (a6 u')
  rw [am_set_comm (a := y + 9) (c := y + 7) (by omega), H2_s7]
theorem H3_mm (q : MM h y g m) : MM (H3 h y f t u) y g m := ⟨H3_k q.1 (by omega) (by omega) (by omega), H3_k q.2 (by omega) (by omega) (by omega)⟩
theorem pB_cnt (m : Nat → Int32) (v : VR m) (q : Nat) : bitsF (peopleF m (nI q)) = nI (cntB (pB m q) (nP m)) := by
  have hP := v.pp.2
  unfold bitsF
  rw [bits_cnt _ 31 (by decide)]
  congr 1
  refine cntB_cut 31 (fun i hi => ?_) (fun i h1 h2 => ?_) (by omega)
  · show tb (bsF _ _) i = _
    rw [tb_bsF (by omega) i (by omega), decide_eq_true hi, Bool.true_and]; rfl
  · show tb (bsF _ _) i = _
    rw [tb_bsF (by omega) i (by omega), decide_eq_false (by omega), Bool.false_and]
theorem S_cnt {S : Nat} (hS : S < 1024) : bitsF (nI S) = nI (cntB S.testBit 10) := by
  unfold bitsF
  rw [bits_cnt _ 31 (by decide)]
  congr 1
  refine cntB_cut 31 (fun i hi => tb_nI (by omega)) (fun i h1 h2 => ?_) (by omega)
  show tb (nI S) i = false
  rw [tb_nI (by omega), Nat.testBit_lt_two_pow (Nat.lt_of_lt_of_le hS (Nat.pow_le_pow_right (by decide) h1 : 2 ^ 10 ≤ 2 ^ i))]
theorem pB_isF (m : Nat → Int32) (v : VR m) (q : Nat) {i : Nat} (hi : i < 31) : isF (peopleF m (nI q)) (nI i) = (decide (i < nP m) && pB m q i) := isF_bsF (by have := v.pp.2; omega) (by omega)
theorem c_yShare (q0 : MM h y g m) (v : VR m) (of : ∃ f, h.1 (y + 7) = some (i24 f)) (ot : ∃ f, h.1 (y + 8) = some (i24 f)) (ou : ∃ f, h.1 (y + 9) = some (a6 f)) (p k : Int32) : Ev G 4 m_X6_share [.ref y, .int p, .int k] h (fun r h' => r = .int (qShare m p k).2 ∧ ∃ f t u, h' = H3 (mh h y (upd g 0 (nI (qShare m p k).1))) y f t u) := by
  obtain ⟨f0, of⟩ := of
  obtain ⟨t0, ot⟩ := ot
  obtain ⟨u0, ou⟩ := ou
  have o0 := q0.1
  have m1 := q0.thr (nI 1); have m3 := q0.thr (nI 0)
  have o1 := m1.1
  have hP := v.pp
  have wl := Ws_wl v
  have e3 : ∀ w : Int32, mh h y (upd g 0 w) = H3 (mh h y (upd g 0 w)) y f0 t0 u0 := fun w => by
    unfold H3 H2
    rw [am_set_id (am_set_k of (by omega) : (mh h y (upd g 0 w)).1 (y + 7) = _), am_set_id (am_set_k ot (by omega) : (mh h y (upd g 0 w)).1 (y + 8) = _), am_set_id (am_set_k ou (by omega) : (mh h y (upd g 0 w)).1 (y + 9) = _)]
  refine wc_in mt_X6_share rfl (L := [.ref y, .int p, .int k, am_un, am_un, am_un, am_un, am_un, am_un, am_un, am_un]) rfl ?_
  unfold qShare
  cases e1 : inF p 0 11 with
  | false =>
    rw [if_pos rfl]
    refine r_aload_0 rfl ?_
    refine r_iload_1 rfl ?_
    refine r_invP_1 rfl rfl (by decide) (c_mIsPlace p) ?_
    refine r_ifneF rfl (by rw [e1]; rfl) ?_
    refine r_push rfl ?_
    refine r_goto rfl ?_
    refine r_puti rfl (o0) rfl ?_
    rw [mo_0]
    refine r_aload_0 rfl ?_
    refine r_getf rfl (o1) (by rfl) ?_
    refine r_ifleF rfl (by rw [upd_eq]; decide) ?_
    refine r_push rfl ?_
    refine r_iret rfl ?_
    exact ⟨_, _, rfl, rfl, f0, t0, u0, e3 _⟩
  | true =>
    rw [if_neg (by decide)]
    obtain ⟨q, hq, rfl⟩ := inF_nI (n := 12) (by decide) e1
    rw [nI_clamp (show q < 2 ^ 31 by omega)]
    have o3 := m3.1
    refine r_aload_0 rfl ?_
    refine r_iload_1 rfl ?_
    refine r_invP_1 rfl rfl (by decide) (c_mIsPlace _) ?_
    refine r_ifneT rfl (by rw [e1]; decide) ?_
    refine r_push rfl ?_
    refine r_puti rfl (o0) rfl ?_
    rw [mo_0]
    refine r_aload_0 rfl ?_
    refine r_getf rfl (o3) (by rfl) ?_
    refine r_ifleT rfl (by rw [upd_eq]; decide) ?_
    refine r_aload_0 rfl ?_
    refine r_iload_1 rfl ?_
    refine r_invvP_1 rfl (o3) rfl rfl (by decide) (c_mthoseAt m3 v _) ?_
    refine r_istore_3 rfl ?_
    refine r_iload_3 rfl ?_
    refine r_invP_1 rfl rfl (by decide) (c_mbits _) ?_
    refine r_istore_4 rfl ?_
    refine r_push rfl ?_
    refine r_istore_5 rfl ?_
    refine r_push rfl ?_
    refine r_istore_6 rfl ?_
    skip
    have of3 : (mh h y (upd g 0 0)).1 (y + 7) = some (i24 f0) := am_set_k of (by omega)
    have ot3 : (mh h y (upd g 0 0)).1 (y + 8) = some (i24 t0) := am_set_k ot (by omega)
    have ou3 : (mh h y (upd g 0 0)).1 (y + 9) = some (a6 u0) := am_set_k ou (by omega)
    have e30 := e3 0
    change MM (mh h y (upd g 0 0)) y (upd g 0 0) m at m3
    show Wp G 4 mt_X6_share 43 _ _ (mh h y (upd g 0 0)) (fun R => ∃ v h', R = .inl (some v, h') ∧ v = .int (shF m q k) ∧ ∃ f t u, h' = H3 (mh h y (upd g 0 0)) y f t u)
    rw [pB_cnt m v q]
    clear o0 m1 o1 e3 of ot ou o3
    generalize mh h y (upd g 0 0) = hh at *
    generalize upd g 0 0 = gg at *
    have o := m3.1
    have r3 := m3.2
    refine wp_forHK (nP m) (fun j => [.ref y, .int (nI q), .int k, .int (peopleF m (nI q)), .int (nI (cntB (pB m q) (nP m))), .int (nI (stF m q j)), .int (nI j), am_un, am_un, am_un, am_un]) (fun j h' => h' = hh) (fun j h' hj hK kont => ?_) (fun h' hK => ?_) rfl
    · subst hK
      have eb := pB_isF m v q (i := j) (by omega)
      rw [decide_eq_true hj, Bool.true_and] at eb
      have es : stF m q (j + 1) = stF m q j ||| (if pB m q j = true then woN m j else 0) := rfl
      cases c : pB m q j with
      | true =>
        rw [c, if_pos rfl] at es
        rw [c] at eb
        refine r_iload_6 rfl ?_
        refine r_aload_0 rfl ?_
        refine r_getf rfl (o) (by rfl) ?_
        refine r_push rfl ?_
        refine r_iald rfl (r3) (show (3 : Int32) = nI 3 from rfl) (by first | assumption | omega) (by first | decide | omega) ?_
        refine r_icgeF rfl (by rw [hP.1]; exact nI_lt hj (by omega)) ?_
        refine r_iload_5 rfl ?_
        refine r_iload_3 rfl ?_
        refine r_iload_6 rfl ?_
        refine r_invP_2 rfl rfl (by decide) (c_isOf _ _) ?_
        refine r_ifeqF rfl (by rw [eb]; decide) ?_
        refine r_aload_0 rfl ?_
        refine r_iload_6 rfl ?_
        refine r_invvP_1 rfl (o) rfl rfl (by decide) (c_mworn m3 v _) ?_
        refine r_goto rfl ?_
        refine r_ior rfl ?_
        refine r_istore_5 rfl ?_
        refine r_iinc_6 rfl ?_
        refine r_goto rfl ?_
        rw [nI_1, woN_ok v, or_I, ← es]
        exact kont _ rfl
      | false =>
        rw [c, if_neg (by decide)] at es
        rw [c] at eb
        refine r_iload_6 rfl ?_
        refine r_aload_0 rfl ?_
        refine r_getf rfl (o) (by rfl) ?_
        refine r_push rfl ?_
        refine r_iald rfl (r3) (show (3 : Int32) = nI 3 from rfl) (by first | assumption | omega) (by first | decide | omega) ?_
        refine r_icgeF rfl (by rw [hP.1]; exact nI_lt hj (by omega)) ?_
        refine r_iload_5 rfl ?_
        refine r_iload_3 rfl ?_
        refine r_iload_6 rfl ?_
        refine r_invP_2 rfl rfl (by decide) (c_isOf _ _) ?_
        refine r_ifeqT rfl (by rw [eb]; rfl) ?_
        refine r_push rfl ?_
        refine r_ior rfl ?_
        refine r_istore_5 rfl ?_
        refine r_iinc_6 rfl ?_
        refine r_goto rfl ?_
        rw [nI_1, show nI (stF m q j) ||| 0 = nI (stF m q j ||| 0) from or_I _ 0, ← es]
        exact kont _ rfl
    subst hK
    have hS := stF_lt v (q := q) (nP m)
    have hN6 : cntB (pB m q) (nP m) ≤ 6 := by have := cntB_n (b := pB m q) (nP m); omega
    unfold shF
    obtain ⟨N, eN⟩ : ∃ N, N = cntB (pB m q) (nP m) := ⟨_, rfl⟩
    obtain ⟨S, eS⟩ : ∃ S, S = stF m q (nP m) := ⟨_, rfl⟩
    rw [← eN] at hN6 ⊢
    rw [← eS] at hS ⊢
    by_cases n0 : N = 0
    · rw [if_pos n0]
      refine r_iload_6 rfl ?_
      refine r_aload_0 rfl ?_
      refine r_getf rfl (o) (by rfl) ?_
      refine r_push rfl ?_
      refine r_iald rfl (r3) (show (3 : Int32) = nI 3 from rfl) (by first | assumption | omega) (by first | decide | omega) ?_
      refine r_icgeT rfl (by rw [hP.1]; exact Int32.le_refl _) ?_
      refine r_iload_4 rfl ?_
      refine r_ifneF rfl (by rw [n0]; rfl) ?_
      refine r_push rfl ?_
      refine r_iret rfl ?_
      exact ⟨_, _, rfl, rfl, f0, t0, u0, e30⟩
    rw [if_neg n0]
    have hNp := Nat.pos_of_ne_zero n0
    obtain ⟨w, eu⟩ := mF_some (W := Ws m) (s := S) hNp
    have hu := mF_le wl _ _ _ eu
    rw [eu]
    show Wp G 4 mt_X6_share 43 _ _ h' (fun R => ∃ v h'_1, R = .inl (some v, h'_1) ∧ v = .int (if k = -1 then nI w else whW (Ws m) N S w (selB (pB m q) (nP m)) k) ∧ ∃ f t u, h'_1 = H3 h' y f t u)
    refine r_iload_6 rfl ?_
    refine r_aload_0 rfl ?_
    refine r_getf rfl (o) (by rfl) ?_
    refine r_push rfl ?_
    refine r_iald rfl (r3) (show (3 : Int32) = nI 3 from rfl) (by first | assumption | omega) (by first | decide | omega) ?_
    refine r_icgeT rfl (by rw [hP.1]; exact Int32.le_refl _) ?_
    refine r_iload_4 rfl ?_
    refine r_ifneT rfl (fun z => n0 (nI_inj (c := 0) (by omega) (by decide) z)) ?_
    skip
    refine r_aload_0 rfl ?_
    refine r_iload_5 rfl ?_
    refine r_iload_4 rfl ?_
    refine r_invvE rfl rfl o rfl rfl (by decide) (c_leastBy m3 v of3 ot3 hS hN6) ?_
    rintro r h1 ⟨rfl, f, t, rfl⟩
    rw [eu]
    have e4 : H2 h' y f t = H3 h' y f t u0 := (am_set_id (H2_k ou3 (by omega) (by omega))).symm
    rw [e4]
    have ob : ∀ f t u, (H3 h' y f t u).1 y = some (mcell y gg) := fun f t u => H3_k o (by omega) (by omega) (by omega)
    by_cases ek : k = -1
    · rw [if_pos ek]
      refine r_istore_6 rfl ?_
      refine r_iload_2 rfl ?_
      refine r_push rfl ?_
      refine r_icneF rfl (ek) ?_
      refine r_iload_6 rfl ?_
      refine r_iret rfl ?_
      exact ⟨_, _, rfl, rfl, f, t, u0, rfl⟩
    rw [if_neg ek]
    have eb := S_cnt hS
    have h10 := cntB_n (b := S.testBit) 10
    cases ein : inF k 0 (nI (cntB S.testBit 10) - 1) with
    | false =>
      have : whW (Ws m) N S w (selB (pB m q) (nP m)) k = -1 := by unfold whW; rw [if_pos ein]
      rw [this]
      refine r_istore_6 rfl ?_
      refine r_iload_2 rfl ?_
      refine r_push rfl ?_
      refine r_icneT rfl (ek) ?_
      refine r_iload_2 rfl ?_
      refine r_push rfl ?_
      refine r_iload_5 rfl ?_
      refine r_invP_1 rfl rfl (by decide) (c_mbits _) ?_
      rw [eb]
      refine r_push rfl ?_
      refine r_isub rfl ?_
      refine r_invP_3 rfl rfl (by decide) (c_isIn _ _ _) ?_
      refine r_ifneF rfl (by rw [ein]; rfl) ?_
      refine r_push rfl ?_
      refine r_iret rfl ?_
      exact ⟨_, _, rfl, rfl, f, t, u0, rfl⟩
    | true =>
      have c0 : cntB S.testBit 10 ≠ 0 := fun z => by
        rw [z] at ein
        unfold inF at ein
        rw [Bool.and_eq_true] at ein
        exact absurd (Int32.le_trans (of_decide_eq_true ein.1) (of_decide_eq_true ein.2)) (by decide)
      have ein2 := ein
      rw [show (1 : Int32) = nI 1 from rfl] at ein2
      obtain ⟨kk, hkk, rfl⟩ := inF_nI (by omega) ein2
      refine r_istore_6 rfl ?_
      refine r_iload_2 rfl ?_
      refine r_push rfl ?_
      refine r_icneT rfl (ek) ?_
      refine r_iload_2 rfl ?_
      refine r_push rfl ?_
      refine r_iload_5 rfl ?_
      refine r_invP_1 rfl rfl (by decide) (c_mbits _) ?_
      rw [eb]
      refine r_push rfl ?_
      refine r_isub rfl ?_
      refine r_invP_3 rfl rfl (by decide) (c_isIn _ _ _) ?_
      refine r_ifneT rfl (by rw [ein]; decide) ?_
      refine r_push rfl ?_
      refine r_istore_7 rfl ?_
      skip
      clear of3 ot3 ou3 e30 e4 ein ein2 r3
      refine wp_forHK N (fun j => [.ref y, .int (nI q), .int (nI kk), .int (peopleF m (nI q)), .int (nI N), .int (nI S), .int (nI w), .int (nI j), am_un, am_un, am_un]) (fun j h1 => ∃ u, h1 = H3 h' y f t u ∧ ∀ i, i < j → u i = nI w) (fun j h1 hj hK kont => ?_) (fun h1 hK => ?_) ⟨u0, rfl, fun i hi => absurd hi (Nat.not_lt_zero _)⟩
      · obtain ⟨u, rfl, hu⟩ := hK
        refine r_iload_7 rfl ?_
        refine r_iload_4 rfl ?_
        refine r_icgeF rfl (nI_lt hj (by omega)) ?_
        refine r_aload_0 rfl ?_
        refine r_getf rfl (ob _ _ _) (by rfl) ?_
        refine r_iload_7 rfl ?_
        refine r_iload_6 rfl ?_
        refine r_iast rfl (H3_9) (rfl) (show j < 6 by omega) (by first | decide | omega) ?_
        refine r_iinc_7 rfl ?_
        refine r_goto rfl ?_
        rw [nI_1]
        refine kont _ ⟨_, H3_s9, fun i hi => ?_⟩
        by_cases c : i = j
        · subst c; rw [upd_eq]
        · rw [upd_ne c]; exact hu i (by omega)
      obtain ⟨u, rfl, hu9⟩ := hK
      refine r_iload_7 rfl ?_
      refine r_iload_4 rfl ?_
      refine r_icgeT rfl (Int32.le_refl _) ?_
      refine r_iload_5 rfl ?_
      refine r_istore_7 rfl ?_
      refine r_push rfl ?_
      refine r_istore_8 rfl ?_
      refine r_push rfl ?_
      refine r_istore_9 rfl ?_
      skip
      refine wp_forH (kk + 1) (fun i Ls h1 => (∃ a x8 x10, Ls = [.ref y, .int (nI q), .int (nI kk), .int (peopleF m (nI q)), .int (nI N), .int (nI S), .int (nI w), .int (nI (hiS S a)), x8, .int (nI i), x10] ∧ cntB S.testBit a = i ∧ (0 < i → ∃ z, z < 10 ∧ S.testBit z = true ∧ cntB S.testBit z + 1 = i ∧ x8 = .int (nI (gvT (Ws m) N S z (gvR (Ws m) N S w z)))) ∧ ∃ f u, h1 = H3 h' y f t u ∧ ∀ i, i < N → u i = nI (gvR (Ws m) N S w a i))) (fun i Ls h1 hi hK kont => ?_) (fun Ls h1 hK => ?_) _ _ ⟨0, _, _, rfl, rfl, fun z => absurd z (Nat.lt_irrefl _), f, u, rfl, hu9⟩
      · obtain ⟨a, x8, x10, rfl, ca, -, f, u, rfl, hu⟩ := hK
        obtain ⟨z, hz, zb, cz⟩ := cntB_ex (b := S.testBit) 10 i (by omega)
        have haz : a ≤ z := by
          by_cases c : a ≤ z
          · exact c
          · have := cntB_lt (b := S.testBit) (i := z) (j := a) (by omega) zb
            omega
        obtain ⟨s1, s2⟩ := gv_same (W := Ws m) (n := N) (v := w) (st := S) (a := a) (z - a) (by rw [show a + (z - a) = z by omega]; omega)
        rw [show a + (z - a) = z by omega] at s1 s2
        rw [← s2] at hu
        obtain ⟨ok, tn, bad⟩ := gv_ok wl eu zb
        obtain ⟨R, eR⟩ : ∃ R, R = gvR (Ws m) N S w z := ⟨_, rfl⟩
        obtain ⟨T, eT⟩ : ∃ T, T = gvT (Ws m) N S z (gvR (Ws m) N S w z) := ⟨_, rfl⟩
        rw [← eT] at ok tn bad
        rw [← eR] at ok bad hu
        have e2 : gvR (Ws m) N S w (z + 1) = updN R T (R T - Ws m (2 ^ z)) := by rw [gvR, zb, if_pos rfl, ← eT, ← eR]
        have hR : ∀ k, k < N → u k = nI (R k) ∧ R k ≤ 400 := fun k hk => ⟨hu k hk, by rw [eR]; exact Nat.le_trans (gvR_le z k) (by omega)⟩
        have zn : z < nS m := by rw [eS] at zb; exact stF_bit _ zb
        have ew : m (71 + 6 * z) = nI (Ws m (2 ^ z)) := Ws_one v zn
        have hin : inS (2 ^ z) (hiS S z) := inS_of fun i hi => by
          rw [pow_bit] at hi
          have := of_decide_eq_true hi
          subst this
          rw [hiS_bit, zb]; simp
        have left : nI (hiS S a) &&& (((1 : Int32) <<< (nI z &&& 31)) ^^^ (-1)) = nI (hiS S (z + 1)) := by
          rw [← s1, sh1 z (by omega), xor_I hin, hiS_T zb]
        have hl : hiS S (z + 1) < 1024 := by
          have : inS (hiS S (z + 1)) S := inS_of fun i hi => by
            rw [hiS_bit] at hi
            cases e : S.testBit i with
            | true => rfl
            | false => rw [e, Bool.and_false] at hi; cases hi
          have := inS_le this
          omega
        have ck := c_kth (G := G) (h := H3 h' y f t u) (X := nI S) (c := S.testBit) (z := z) (by omega) (fun i hi => isF_n (by omega)) zb
        rw [cz] at ck
        have inner : ∀ (d to : Nat) (f : Nat → Int32), to + d = T → Wp G 4 mt_X6_share 190 [.ref y, .int (nI q), .int (nI kk), .int (peopleF m (nI q)), .int (nI N), .int (nI S), .int (nI w), .int (nI (hiS S (z + 1))), .int (nI to), .int (nI i), .int (nI z)] [] (H3 h' y f t u) (fun R' => ∃ v h'_1, R' = .inl (some v, h'_1) ∧ v = .int (whW (Ws m) N S w (selB (pB m q) (nP m)) (nI kk)) ∧ ∃ f t u, h'_1 = H3 h' y f t u) := by
          intro d
          induction d with
          | zero =>
            intro to f ht
            have ht : to = T := by omega
            subst ht
            refine r_aload_0 rfl ?_
            refine r_iload_8 rfl ?_
            refine r_aload_0 rfl ?_
            refine r_iload_10 rfl ?_
            refine r_push rfl ?_
            refine r_invvP_2 rfl (ob f t u) rfl rfl (by decide) (c_os2 (H3_mm m3) (by omega)) ?_
            refine r_iload_7 rfl ?_
            refine r_iload_4 rfl ?_
            rw [ew]
            refine r_invvE rfl rfl (ob f t u) rfl rfl (by decide) (c_gives (R := R) (H3_mm m3) v H3_7 H3_9 hl hN6 tn (wl.2.1 _) hR) ?_
            rintro r h2 ⟨rfl, f', rfl⟩
            rw [ok, if_pos rfl]
            rw [show am_set (am_set (H3 h' y f t u) (y + 9) (.inl (0, 6, .inl (upd u to (nI (R to - Ws m (2 ^ z))))))) (y + 7) (i24 f') = H3 h' y f' t (upd u to (nI (R to - Ws m (2 ^ z)))) from H3_s97]
            refine r_ifneT rfl (by decide) ?_
            refine r_iinc_9 rfl ?_
            refine r_goto rfl ?_
            rw [nI_1]
            refine kont _ _ ⟨z + 1, _, _, rfl, by rw [cntB, zb]; exact congrArg (· + 1) cz, fun _ => ⟨z, hz, zb, by omega, by rw [← eT]⟩, f', _, rfl, fun k hk => ?_⟩
            rw [e2]
            by_cases d : k = to
            · subst d; rw [upd_eq, updN_eq]
            · rw [upd_ne d, updN_ne d]; exact hu k hk
          | succ d ih =>
            intro to f ht
            refine r_aload_0 rfl ?_
            refine r_iload_8 rfl ?_
            refine r_aload_0 rfl ?_
            refine r_iload_10 rfl ?_
            refine r_push rfl ?_
            refine r_invvP_2 rfl (ob f t u) rfl rfl (by decide) (c_os2 (H3_mm m3) (by omega)) ?_
            refine r_iload_7 rfl ?_
            refine r_iload_4 rfl ?_
            rw [ew]
            refine r_invvE rfl rfl (ob f t u) rfl rfl (by decide) (c_gives (R := R) (t := to) (H3_mm m3) v H3_7 H3_9 hl hN6 (by omega) (wl.2.1 _) hR) ?_
            rintro r h2 ⟨rfl, f', rfl⟩
            rw [bad to (by omega), if_neg (by decide)]
            rw [show am_set (am_set (H3 h' y f t u) (y + 9) (.inl (0, 6, .inl u))) (y + 7) (i24 f') = H3 h' y f' t u from H3_s97]
            have again := ih (to + 1) f' (by omega)
            refine r_ifneF rfl (rfl) ?_
            refine r_iinc_8 rfl ?_
            refine r_goto rfl ?_
            rw [nI_1]
            exact again
        refine r_iload_9 rfl ?_
        refine r_iload_2 rfl ?_
        refine r_icgtF rfl (nI_le (by omega) (by omega)) ?_
        refine r_iload_5 rfl ?_
        refine r_iload_9 rfl ?_
        refine r_invP_2 rfl rfl (by decide) (ck) ?_
        refine r_istore_10 rfl ?_
        refine r_iload_7 rfl ?_
        refine r_push rfl ?_
        refine r_iload_10 rfl ?_
        refine r_ishl rfl ?_
        refine r_push rfl ?_
        refine r_ixor rfl ?_
        refine r_iand rfl ?_
        refine r_istore_7 rfl ?_
        refine r_push rfl ?_
        refine r_istore_8 rfl ?_
        rw [left]
        exact inner T 0 f (by omega)
      · obtain ⟨a, x8, x10, rfl, ca, hz, f, u, rfl, hu⟩ := hK
        obtain ⟨z, hz10, zb, cz, rfl⟩ := hz (by omega)
        have ekk : cntB S.testBit z = kk := by omega
        subst ekk
        obtain ⟨ok, tn, bad⟩ := gv_ok wl eu zb
        rw [eN] at tn
        obtain ⟨p, p1, p2, p3⟩ := cntB_ex (b := pB m q) _ _ tn
        have ck := c_kth (G := G) (h := H3 h' y f t u) (X := peopleF m (nI q)) (c := fun i => decide (i < nP m) && pB m q i) (z := p) (by omega) (fun i hi => pB_isF m v q hi) (by rw [p2, decide_eq_true p1]; rfl)
        have ec : cntB (fun i => decide (i < nP m) && pB m q i) p = cntB (pB m q) p := cntB_cut p (fun i hi => by rw [decide_eq_true (by omega), Bool.true_and]) (fun i h1 h2 => by omega) (Nat.le_refl _)
        rw [ec, p3, ← eN] at ck
        refine r_iload_9 rfl ?_
        refine r_iload_2 rfl ?_
        refine r_icgtT rfl (nI_lt (by omega) (by omega)) ?_
        refine r_iload_3 rfl ?_
        refine r_iload_8 rfl ?_
        refine r_invP_2 rfl rfl (by decide) (ck) ?_
        refine r_iret rfl ?_
        exact ⟨_, _, rfl, by rw [whW_at hz10 zb, eN, ← p3, selB_at p2 _ p1], f, t, u, rfl⟩
end
