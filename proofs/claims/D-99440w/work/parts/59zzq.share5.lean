/-! SHARE: the system asks -/
set_option maxRecDepth 100000
def SQ (x : Nat) : Nat → Prop := fun a => x + 65 ≤ a ∧ a < x + 71
def SQ4 (x : Nat) : Nat → Prop := fun a => x + 65 ≤ a ∧ a < x + 69
theorem add_m1 (a : Int32) : a + (-1) = a - 1 := by rw [Int32.sub_eq_add_neg]
section
variable {G : am_G} {h : am_H} {x y : Nat} {hi : Bool} {m b g : Nat → Int32} {l : Value}
theorem c_x5is {q : Nat} {pe st : Int32} (w : HW h) (hx : h.1 x = some (.inr (0, xobj x hi))) (wa : WA h (x + 1) m b l) (v : VR m) (yb : BY b m) (o : h.1 (x + 65) = some (soI x pe st)) (oe : ∃ f, h.1 (x + 66) = some (.inl (0, 7168, .inl f))) (ow : ∃ f, h.1 (x + 67) = some (.inl (0, 6, .inl f))) (os : ∃ f, h.1 (x + 68) = some (.inl (0, 1024, .inl f)) ∧ f 0 = 0) : Ev G 2 m_X5_is [.ref (x + 65), .int (nI q)] h (fun r h' => r = .ref (x + 65) ∧ h'.1 (x + 65) = some (soI x (nI (cntB (pB m q) (nP m))) (nI (stF m q (nP m)))) ∧ (∃ f, h'.1 (x + 66) = some (.inl (0, 7168, .inl f)) ∧ f (stF m q (nP m)) = farV (mF (Ws m) (cntB (pB m q) (nP m)) (stF m q (nP m)))) ∧ (∃ f, h'.1 (x + 67) = some (.inl (0, 6, .inl f)) ∧ ∀ p, p < nP m → pB m q p = true → f (cntB (pB m q) p) = nI p) ∧ (∃ f, h'.1 (x + 68) = some (.inl (0, 1024, .inl f)) ∧ f 0 = 0 ∧ ∀ p, inS p (stF m q (nP m)) → f p = nI (Ws m p)) ∧ HF (SQ4 x) 0 0 h h') := by
  have hP := v.pp
  have h10 := v.ss.2
  have wl := Ws_wl v
  obtain ⟨fe0, oe⟩ := oe
  obtain ⟨fw0, ow⟩ := ow
  obtain ⟨fs0, os, os0⟩ := os
  have hS := stF_lt v (q := q) (nP m)
  have hN6 : cntB (pB m q) (nP m) ≤ 6 := by have := cntB_n (b := pB m q) (nP m); omega
  refine wc_in mt_X5_is rfl (L := [.ref (x + 65), .int (nI q), am_un, am_un]) rfl ?_
  refine r_aload_0 rfl ?_
  refine r_push rfl ?_
  refine r_puti rfl o rfl ?_
  refine r_aload_0 rfl ?_
  refine r_push rfl ?_
  refine r_puti rfl am_set_at rfl ?_
  rw [am_set_set]
  refine r_push rfl ?_
  refine r_istore_2 rfl ?_
  have F0 : HF (fun a => a = x + 65 ∨ a = x + 67) 0 0 h (am_set h (x + 65) (soI x 0 0)) := (HF.set w o).mono (fun a z => Or.inl z) (Nat.le_refl _) (Nat.le_refl _)
  refine wp_forHK (nP m) (fun j => [.ref (x + 65), .int (nI q), .int (nI j), am_un]) (fun j h' => h'.1 (x + 65) = some (soI x (nI (cntB (pB m q) j)) (nI (stF m q j))) ∧ (∃ f, h'.1 (x + 67) = some (.inl (0, 6, .inl f)) ∧ ∀ p, p < j → pB m q p = true → f (cntB (pB m q) p) = nI p) ∧ HF (fun a => a = x + 65 ∨ a = x + 67) 0 0 h h') (fun j h' hj hK kont => ?_) (fun h' hK => ?_) ⟨am_set_at, ⟨fw0, am_set_k ow (by omega), fun p hp => absurd hp (Nat.not_lt_zero _)⟩, F0⟩
  · obtain ⟨o', ⟨fw, ow', hw⟩, F⟩ := hK
    have hx' := F.k hx (by omega)
    have wa' := wa.keep F (fun a z => by omega)
    have a1 := wa_o wa'
    have a2 := wa_at wa'
    have hc := cntB_n (b := pB m q) j
    have ej : cl 6 (fun p => m (35 + 6 * p)) j = m (35 + 6 * j) := cl_in (by omega)
    by_cases c : m (35 + 6 * j) = nI q
    · have cb : pB m q j = true := decide_eq_true c
      refine r_iload_2 rfl ?_
      refine r_aload_0 rfl ?_
      refine r_getf rfl (o') (by rfl) ?_
      refine r_getf rfl (hx') (by rfl) ?_
      refine r_getf rfl (a1) (by rfl) ?_
      refine r_icgeF rfl (by rw [hP.1]; exact nI_lt hj (by omega)) ?_
      refine r_aload_0 rfl ?_
      refine r_getf rfl (o') (by rfl) ?_
      refine r_getf rfl (hx') (by rfl) ?_
      refine r_getf rfl (a1) (by rfl) ?_
      refine r_iload_2 rfl ?_
      refine r_iald rfl (a2) (rfl) (show j < 6 by omega) (by first | decide | omega) ?_
      refine r_iload_1 rfl ?_
      refine r_icneF rfl (by rw [ej]; exact c) ?_
      refine r_aload_0 rfl ?_
      refine r_getf rfl (o') (by rfl) ?_
      refine r_aload_0 rfl ?_
      refine r_getf rfl (o') (by rfl) ?_
      refine r_iload_2 rfl ?_
      refine r_iast rfl (ow') (rfl) (show cntB (pB m q) j < 6 by omega) (by first | decide | omega) ?_
      refine r_aload_0 rfl ?_
      refine r_dupR rfl ?_
      refine r_getf rfl (am_set_k o' (by omega)) (by rfl) ?_
      refine r_push rfl ?_
      refine r_iadd rfl ?_
      refine r_puti rfl (am_set_k o' (by omega)) rfl ?_
      skip
      have F1 : HF (fun a => a = x + 65 ∨ a = x + 67) 0 0 h (am_set (am_set h' (x + 67) (.inl (0, 6, .inl (upd fw (cntB (pB m q) j) (nI j))))) (x + 65) (soI x (nI (cntB (pB m q) j) + 1) (nI (stF m q j)))) := HF.setP (HF.setP F ow' (Or.inr rfl)) (am_set_k o' (by omega)) (Or.inl rfl)
      have o1 : (am_set (am_set h' (x + 67) (.inl (0, 6, .inl (upd fw (cntB (pB m q) j) (nI j))))) (x + 65) (soI x (nI (cntB (pB m q) j) + 1) (nI (stF m q j)))).1 (x + 65) = some (soI x (nI (cntB (pB m q) j) + 1) (nI (stF m q j))) := am_set_at
      have hx1 := F1.k hx (by omega)
      have wa1 := wa.keep F1 (fun a z => by omega)
      have b1 := wa_o wa1
      refine r_aload_0 rfl ?_
      refine r_dupR rfl ?_
      refine r_getf rfl o1 rfl ?_
      refine r_aload_0 rfl ?_
      refine r_getf rfl o1 rfl ?_
      refine r_getf rfl hx1 rfl ?_
      refine r_iload_2 rfl ?_
      refine r_invvP_1 rfl b1 rfl rfl (by decide) (c_wornBy wa1 v yb _) ?_
      refine r_ior rfl ?_
      refine r_puti rfl o1 rfl ?_
      refine r_iinc_2 rfl ?_
      refine r_goto rfl ?_
      rw [nI_1]
      have e1 : cntB (pB m q) (j + 1) = cntB (pB m q) j + 1 := by rw [cntB, cb]; rfl
      have e2 : stF m q (j + 1) = stF m q j ||| woN m j := by rw [stF, cb]; rfl
      refine kont _ ⟨?_, ⟨_, am_set_k (am_set_k am_set_at (by omega)) (by omega), fun p hp hb => ?_⟩, HF.setP F1 o1 (Or.inl rfl)⟩
      · rw [e1, e2, ← or_I, ← woN_ok v, ← nI_1]
        exact am_set_at
      · by_cases d : p = j
        · subst d; rw [upd_eq]
        · have := cntB_lt (b := pB m q) (i := p) (j := j) (by omega) hb
          rw [upd_ne (by omega)]
          exact hw p (by omega) hb
    · have cb : pB m q j = false := decide_eq_false c
      refine r_iload_2 rfl ?_
      refine r_aload_0 rfl ?_
      refine r_getf rfl (o') (by rfl) ?_
      refine r_getf rfl (hx') (by rfl) ?_
      refine r_getf rfl (a1) (by rfl) ?_
      refine r_icgeF rfl (by rw [hP.1]; exact nI_lt hj (by omega)) ?_
      refine r_aload_0 rfl ?_
      refine r_getf rfl (o') (by rfl) ?_
      refine r_getf rfl (hx') (by rfl) ?_
      refine r_getf rfl (a1) (by rfl) ?_
      refine r_iload_2 rfl ?_
      refine r_iald rfl (a2) (rfl) (show j < 6 by omega) (by first | decide | omega) ?_
      refine r_iload_1 rfl ?_
      refine r_icneT rfl (by rw [ej]; exact c) ?_
      refine r_iinc_2 rfl ?_
      refine r_goto rfl ?_
      rw [nI_1]
      have e1 : cntB (pB m q) (j + 1) = cntB (pB m q) j := by rw [cntB, cb]; rfl
      have e2 : stF m q (j + 1) = stF m q j := by rw [stF, cb]; exact Nat.or_zero _
      refine kont _ ⟨by rw [e1, e2]; exact o', ⟨fw, ow', fun p hp hb => ?_⟩, F⟩
      by_cases d : p = j
      · subst d; rw [cb] at hb; cases hb
      · exact hw p (by omega) hb
  obtain ⟨o1, ⟨fw, ow1, hw⟩, F1⟩ := hK
  have hx1 := F1.k hx (by omega)
  have wa1 := wa.keep F1 (fun a z => by omega)
  have a1 := wa_o wa1
  have os1 := F1.k os (by omega)
  have oe1 := F1.k oe (by omega)
  have w1 := F1.w
  refine r_iload_2 rfl ?_
  refine r_aload_0 rfl ?_
  refine r_getf rfl (o1) (by rfl) ?_
  refine r_getf rfl (hx1) (by rfl) ?_
  refine r_getf rfl (a1) (by rfl) ?_
  refine r_icgeT rfl (by rw [hP.1]; exact Int32.le_refl _) ?_
  refine r_push rfl ?_
  refine r_istore_2 rfl ?_
  skip
  obtain ⟨N, eN⟩ : ∃ N, N = cntB (pB m q) (nP m) := ⟨_, rfl⟩
  obtain ⟨S, eS⟩ : ∃ S, S = stF m q (nP m) := ⟨_, rfl⟩
  rw [← eN] at hN6 o1 ⊢
  rw [← eS] at hS o1 ⊢
  refine wp_forHK 1023 (fun j => [.ref (x + 65), .int (nI q), .int (nI (j + 1)), am_un]) (fun j h2 => ∃ f, h2.1 (x + 68) = some (.inl (0, 1024, .inl f)) ∧ f 0 = 0 ∧ (∀ p, p < j + 1 → inS p S → f p = nI (Ws m p)) ∧ HF (fun a => a = x + 68) 0 0 h' h2) (fun j h2 hj hK kont => ?_) (fun h2 hK => ?_) ⟨fs0, os1, os0, fun p hp _ => ?_, (HF.refl w1).mono (fun _ z => z) (Nat.le_refl _) (Nat.le_refl _)⟩
  · obtain ⟨f, of, f0, hf, F⟩ := hK
    have o2 := F.k o1 (by omega)
    have hx2 := F.k hx1 (by omega)
    have wa2 := wa1.keep F (fun a z => by omega)
    have b1 := wa_o wa2
    have b2 := wa_we wa2
    obtain ⟨z, hz, zb, ze, cz⟩ := c_tz (G := G) (h := h2) (s := j + 1) (by omega) (by omega)
    have ix : nI (j + 1) &&& (nI (j + 1) - 1) = nI ((j + 1) ^^^ 2 ^ z) := by
      rw [show (1 : Int32) = nI 1 from rfl, nI_sub (by omega), and_I, ze]
    have hlt : (j + 1) ^^^ 2 ^ z < j + 1 := by rw [← ze]; have : (j + 1) &&& (j + 1 - 1) ≤ j + 1 - 1 := Nat.and_le_right; omega
    refine r_iload_2 rfl ?_
    refine r_push rfl ?_
    refine r_icgeF rfl (nI_lt (a := j + 1) (b := 1024) (by omega) (by decide)) ?_
    refine r_aload_0 rfl ?_
    refine r_getf rfl (o2) (by rfl) ?_
    refine r_iload_2 rfl ?_
    refine r_aload_0 rfl ?_
    refine r_getf rfl (o2) (by rfl) ?_
    refine r_iload_2 rfl ?_
    refine r_iload_2 rfl ?_
    refine r_push rfl ?_
    refine r_isub rfl ?_
    refine r_iand rfl ?_
    refine r_iald rfl (of) (ix) (show (j + 1) ^^^ 2 ^ z < 1024 by omega) (by first | decide | omega) ?_
    refine r_aload_0 rfl ?_
    refine r_getf rfl (o2) (by rfl) ?_
    refine r_getf rfl (hx2) (by rfl) ?_
    refine r_getf rfl (b1) (by rfl) ?_
    refine r_iload_2 rfl ?_
    refine r_invP_1 rfl rfl (by decide) (cz) ?_
    refine r_iald rfl (b2) (rfl) (hz) (by first | decide | omega) ?_
    refine r_iadd rfl ?_
    refine r_iast rfl (of) (rfl) (show j + 1 < 1024 by omega) (by first | decide | omega) ?_
    refine r_iinc_2 rfl ?_
    refine r_goto rfl ?_
    rw [nI_1]
    refine kont _ ⟨_, am_set_at, by rw [upd_ne (by omega)]; exact f0, fun p hp hps => ?_, HF.setP F of rfl⟩
    by_cases d : p = j + 1
    · subst d
      have zS := inS_bit hps z zb
      rw [eS] at zS
      have zn := stF_bit _ zS
      rw [upd_eq, hf _ hlt (inS_tr (by rw [← ze]; exact Nat.le_antisymm (by rw [Nat.and_assoc, Nat.and_comm (j + 1 - 1), ← Nat.and_assoc, Nat.and_self]; exact Nat.le_refl _) (by rw [Nat.and_assoc, Nat.and_comm (j + 1 - 1), ← Nat.and_assoc, Nat.and_self]; exact Nat.le_refl _)) hps), cl_in hz, Ws_one v zn, nI_add, ← wl.2.2 _ z zb]
    · rw [upd_ne d]
      exact hf p (by omega) hps
  · obtain ⟨f, of, f0, hf, F⟩ := hK
    have o2 := F.k o1 (by omega)
    have ow2 := F.k ow1 (by omega)
    have oe2 := F.k oe1 (by omega)
    have F2 : HF (SQ4 x) 0 0 h h2 := (HF.trans (F1.mono (fun a z => by unfold SQ4; omega) (Nat.le_refl _) (Nat.le_refl _)) (F.mono (fun a z => by unfold SQ4; omega) (Nat.le_refl _) (Nat.le_refl _))).mono (fun _ z => z) (Nat.le_refl _) (Nat.le_refl _)
    have hf' : ∀ p, inS p S → f p = nI (Ws m p) := fun p hp => hf p (by have := inS_le hp; omega) hp
    have w2 := F.w
    clear F F1 hf
    refine r_iload_2 rfl ?_
    refine r_push rfl ?_
    refine r_icgeT rfl (by decide) ?_
    refine r_push rfl ?_
    refine r_istore_2 rfl ?_
    skip
    refine wp_forHK 1024 (fun j => [.ref (x + 65), .int (nI q), .int (nI j), am_un]) (fun j h3 => ∃ fl, h3.1 (x + 66) = some (.inl (0, 7168, .inl fl)) ∧ (∀ p, p < j → fl (1024 * N + p) = farV (mF (Ws m) 0 p)) ∧ HF (fun a => a = x + 66) 0 0 h2 h3) (fun j h3 hj hK kont => ?_) (fun h3 hK => ?_) ⟨fe0, oe2, fun p hp => absurd hp (Nat.not_lt_zero _), (HF.refl w2).mono (fun _ z => z) (Nat.le_refl _) (Nat.le_refl _)⟩
    · obtain ⟨fl, ol, hl, F⟩ := hK
      have o3 := F.k o2 (by omega)
      by_cases c : j = 0
      · subst c
        refine r_iload_2 rfl ?_
        refine r_push rfl ?_
        refine r_icgeF rfl (by decide) ?_
        refine r_aload_0 rfl ?_
        refine r_getf rfl (o3) (by rfl) ?_
        refine r_aload_0 rfl ?_
        refine r_aload_0 rfl ?_
        refine r_getf rfl (o3) (by rfl) ?_
        refine r_iload_2 rfl ?_
        refine r_invvP_2 rfl (by assumption) rfl rfl (by decide) (c_x5at (show N < 8 by omega) _) ?_
        refine r_iload_2 rfl ?_
        refine r_ifneF rfl (rfl) ?_
        refine r_push rfl ?_
        refine r_goto rfl ?_
        refine r_iast rfl (ol) (rfl) (show 1024 * N + 0 < 7168 by omega) (by first | decide | omega) ?_
        refine r_iinc_2 rfl ?_
        refine r_goto rfl ?_
        rw [nI_1]
        refine kont _ ⟨_, am_set_at, fun p hp => ?_, HF.setP F ol rfl⟩
        rw [show p = 0 by omega, upd_eq]
        rfl
      · refine r_iload_2 rfl ?_
        refine r_push rfl ?_
        refine r_icgeF rfl (nI_lt hj (by decide)) ?_
        refine r_aload_0 rfl ?_
        refine r_getf rfl (o3) (by rfl) ?_
        refine r_aload_0 rfl ?_
        refine r_aload_0 rfl ?_
        refine r_getf rfl (o3) (by rfl) ?_
        refine r_iload_2 rfl ?_
        refine r_invvP_2 rfl (by assumption) rfl rfl (by decide) (c_x5at (show N < 8 by omega) _) ?_
        refine r_iload_2 rfl ?_
        refine r_ifneT rfl (fun z => c (nI_inj (c := 0) (by omega) (by decide) z)) ?_
        refine r_push rfl ?_
        refine r_iast rfl (ol) (rfl) (show 1024 * N + j < 7168 by omega) (by first | decide | omega) ?_
        refine r_iinc_2 rfl ?_
        refine r_goto rfl ?_
        rw [nI_1]
        refine kont _ ⟨_, am_set_at, fun p hp => ?_, HF.setP F ol rfl⟩
        by_cases d : p = j
        · subst d; rw [upd_eq, mF_z, if_neg c]; rfl
        · rw [upd_ne (by omega)]; exact hl p (by omega)
    · obtain ⟨fl, ol, hl, F⟩ := hK
      have o3 := F.k o2 (by omega)
      refine r_iload_2 rfl ?_
      refine r_push rfl ?_
      refine r_icgeT rfl (by decide) ?_
      refine r_aload_0 rfl ?_
      refine r_getf rfl (o3) (by rfl) ?_
      refine r_push rfl ?_
      refine r_isub rfl ?_
      refine r_istore_2 rfl ?_
      skip
      refine wp_forH N (fun i Ls h4 => (∃ x3, Ls = [.ref (x + 65), .int (nI q), .int (nI (N - i) - 1), x3]) ∧ ∃ fl, h4.1 (x + 66) = some (.inl (0, 7168, .inl fl)) ∧ (∀ k, N - i ≤ k → k ≤ N → ∀ p, inS p S → fl (1024 * k + p) = farV (mF (Ws m) (N - k) p)) ∧ HF (fun a => a = x + 66) 0 0 h2 h4) (fun i Ls h4 hi4 hK kont => ?_) (fun Ls h4 hK => ?_) _ _ ⟨⟨am_un, rfl⟩, fl, ol, fun k h1 h3 p hp => ?_, F⟩
      · obtain ⟨⟨x3, rfl⟩, fl, ol, hl, F⟩ := hK
        obtain ⟨c, ec⟩ : ∃ c, N - i = c + 1 := ⟨N - i - 1, by omega⟩
        have e1 : nI (N - i) - 1 = nI c := by rw [ec, show (1 : Int32) = nI 1 from rfl, nI_sub (by omega)]; rfl
        rw [e1]
        refine r_iload_2 rfl ?_
        refine r_ifltF rfl (nI_le (a := 0) (by omega) (by omega)) ?_
        refine r_push rfl ?_
        refine r_istore_3 rfl ?_
        refine wp_forHK 1024 (fun j => [.ref (x + 65), .int (nI q), .int (nI c), .int (nI j)]) (fun j h5 => ∃ fl, h5.1 (x + 66) = some (.inl (0, 7168, .inl fl)) ∧ (∀ k, c + 1 ≤ k → k ≤ N → ∀ p, inS p S → fl (1024 * k + p) = farV (mF (Ws m) (N - k) p)) ∧ (∀ p, p < j → inS p S → fl (1024 * c + p) = farV (mF (Ws m) (N - c) p)) ∧ HF (fun a => a = x + 66) 0 0 h2 h5) (fun j h5 hj hK kont => ?_) (fun h5 hK => ?_) ⟨fl, ol, fun k h1 h3 => hl k (by omega) h3, fun p hp => absurd hp (Nat.not_lt_zero _), F⟩
        · obtain ⟨fl, ol, hl, hl2, F⟩ := hK
          have o4 := F.k o2 (by omega)
          have of4 := F.k of (by omega)
          have keep : ∀ u : Int32, ∀ k, c + 1 ≤ k → k ≤ N → ∀ p, inS p S → upd fl (1024 * c + j) u (1024 * k + p) = farV (mF (Ws m) (N - k) p) := fun u k h1 h3 p hp => by
            have := inS_le hp
            rw [upd_ne (by omega)]
            exact hl k h1 h3 p hp
          by_cases d : inS j S
          · have cb := c_x5best (G := G) (k := c) (s := j) (t := mF (Ws m) (N - (c + 1))) wl o4 ol of4 hj (by omega) (fun p hp => hf' p (inS_tr hp d)) (fun p hp => hl (c + 1) (by omega) (by omega) p (inS_tr hp d)) (fun p u e => mF_le wl _ p u e)
            rw [← mF_s, show N - (c + 1) + 1 = N - c by omega] at cb
            refine r_iload_3 rfl ?_
            refine r_push rfl ?_
            refine r_icgeF rfl (nI_lt hj (by decide)) ?_
            refine r_aload_0 rfl ?_
            refine r_getf rfl (o4) (by rfl) ?_
            refine r_aload_0 rfl ?_
            refine r_iload_2 rfl ?_
            refine r_iload_3 rfl ?_
            refine r_invvP_2 rfl (by assumption) rfl rfl (by decide) (c_x5at (show c < 8 by omega) _) ?_
            refine r_iload_3 rfl ?_
            refine r_aload_0 rfl ?_
            refine r_getf rfl (o4) (by rfl) ?_
            refine r_push rfl ?_
            refine r_ixor rfl ?_
            refine r_iand rfl ?_
            refine r_ifneF rfl ((sub_iff (by omega)).mpr d) ?_
            refine r_aload_0 rfl ?_
            refine r_iload_2 rfl ?_
            refine r_iload_3 rfl ?_
            refine r_invvP_2 rfl (by assumption) rfl rfl (by decide) (cb) ?_
            refine r_goto rfl ?_
            refine r_iast rfl (ol) (rfl) (show 1024 * c + j < 7168 by omega) (by first | decide | omega) ?_
            refine r_iinc_3 rfl ?_
            refine r_goto rfl ?_
            rw [nI_1]
            refine kont _ ⟨_, am_set_at, keep _, fun p hp hps => ?_, HF.setP F ol rfl⟩
            by_cases e : p = j
            · subst e; rw [upd_eq]
            · rw [upd_ne (by omega)]; exact hl2 p (by omega) hps
          · refine r_iload_3 rfl ?_
            refine r_push rfl ?_
            refine r_icgeF rfl (nI_lt hj (by decide)) ?_
            refine r_aload_0 rfl ?_
            refine r_getf rfl (o4) (by rfl) ?_
            refine r_aload_0 rfl ?_
            refine r_iload_2 rfl ?_
            refine r_iload_3 rfl ?_
            refine r_invvP_2 rfl (by assumption) rfl rfl (by decide) (c_x5at (show c < 8 by omega) _) ?_
            refine r_iload_3 rfl ?_
            refine r_aload_0 rfl ?_
            refine r_getf rfl (o4) (by rfl) ?_
            refine r_push rfl ?_
            refine r_ixor rfl ?_
            refine r_iand rfl ?_
            refine r_ifneT rfl (fun z => d ((sub_iff (by omega)).mp z)) ?_
            refine r_push rfl ?_
            refine r_iast rfl (ol) (rfl) (show 1024 * c + j < 7168 by omega) (by first | decide | omega) ?_
            refine r_iinc_3 rfl ?_
            refine r_goto rfl ?_
            rw [nI_1]
            refine kont _ ⟨_, am_set_at, keep _, fun p hp hps => ?_, HF.setP F ol rfl⟩
            by_cases e : p = j
            · subst e; exact absurd hps d
            · rw [upd_ne (by omega)]; exact hl2 p (by omega) hps
        · obtain ⟨fl, ol, hl, hl2, F⟩ := hK
          refine r_iload_3 rfl ?_
          refine r_push rfl ?_
          refine r_icgeT rfl (by decide) ?_
          refine r_iinc_2 rfl ?_
          refine r_goto rfl ?_
          rw [add_m1]
          refine kont _ _ ⟨⟨_, by rw [show N - (i + 1) = c by omega]⟩, fl, ol, fun k h1 h3 p hp => ?_, F⟩
          by_cases e : k = c
          · subst e; exact hl2 p (by have := inS_le hp; omega) hp
          · exact hl k (by omega) h3 p hp
      · obtain ⟨⟨x3, rfl⟩, fl, ol, hl, F⟩ := hK
        have z0 := hl 0 (by omega) (by omega) S (Nat.and_self _)
        rw [Nat.sub_self]
        refine r_iload_2 rfl ?_
        refine r_ifltT rfl (by decide) ?_
        refine r_aload_0 rfl ?_
        refine r_aret rfl ?_
        exact ⟨_, _, rfl, rfl, F.k o2 (by omega), ⟨fl, ol, by rw [show 1024 * 0 + S = S by omega] at z0; exact z0⟩, ⟨fw, F.k ow2 (by omega), hw⟩, ⟨f, F.k of (by omega), f0, hf'⟩, (HF.trans F2 (F.mono (fun a z => by unfold SQ4; omega) (Nat.le_refl _) (Nat.le_refl _))).mono (fun _ z => z) (Nat.le_refl _) (Nat.le_refl _)⟩
      · rw [show k = N by omega, Nat.sub_self]
        exact hl p (by have := inS_le hp; omega)
  · rw [show p = 0 by omega, os0, wl.1]; rfl
end
