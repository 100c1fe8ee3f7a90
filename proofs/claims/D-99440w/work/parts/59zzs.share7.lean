/-! SHARE: leaves of the model -/
set_option maxRecDepth 100000
def i24 (f : Nat → Int32) : am_C := .inl (0, 1024, .inl f)
def H2 (h : am_H) (y : Nat) (f t : Nat → Int32) : am_H := am_set (am_set h (y + 7) (i24 f)) (y + 8) (i24 t)
theorem bit1 (x : Int32) {k : Nat} (hk : k < 32) : (x >>> (nI k &&& 31)) &&& 1 = bI (tb x k) := by
  apply tb_ext
  intro i hi
  rw [tb_and, tb_1 i hi]
  by_cases c : i = 0
  · subst c
    rw [tb_shr x hk, decide_eq_true rfl, Bool.and_true]
    cases tb x k <;> decide
  · rw [decide_eq_false c, Bool.and_false]
    cases tb x k
    · exact (tb_0 i).symm
    · show false = tb 1 i
      rw [tb_1 i hi, decide_eq_false c]
theorem bits_cnt (x : Int32) : ∀ n, n ≤ 32 → smF (fun k => (x >>> (nI k &&& 31)) &&& 1) n = nI (cntB (fun k => tb x k) n)
  | 0, _ => rfl
  | n + 1, h => by
    rw [smF, bits_cnt x n (by omega), bit1 x (by omega), cntB]
    cases tb x n
    · rw [if_neg (by decide)]; exact nI_add _ 0
    · rw [if_pos rfl]; exact nI_add _ 1
theorem cntB_cut {b b' : Nat → Bool} {n : Nat} : ∀ N, (∀ i, i < n → b i = b' i) → (∀ i, n ≤ i → i < N → b i = false) → n ≤ N → cntB b N = cntB b' n
  | 0, _, _, h => by rw [show n = 0 by omega]; rfl
  | N + 1, h1, h2, h => by
    by_cases c : n = N + 1
    · subst c
      clear h2 h
      induction N with
      | zero => rw [cntB, cntB, h1 0 (by omega)]; rfl
      | succ N ih => show cntB b (N + 1) + _ = cntB b' (N + 1) + _; rw [ih (fun i hi => h1 i (by omega)), h1 (N + 1) (by omega)]
    · rw [cntB, h2 N (by omega) (by omega), cntB_cut N h1 (fun i h3 h4 => h2 i h3 (by omega)) (by omega)]
      rfl
section
variable {G : am_G} {h : am_H} {x y : Nat} {m b g : Nat → Int32} {W R : Nat → Nat} {f t f' t' : Nat → Int32}
theorem H2_7 : (H2 h y f t).1 (y + 7) = some (i24 f) := am_set_k am_set_at (by omega)
theorem H2_8 : (H2 h y f t).1 (y + 8) = some (i24 t) := am_set_at
theorem H2_k {a : Nat} {e : am_C} (q : h.1 a = some e) (h7 : a ≠ y + 7) (h8 : a ≠ y + 8) : (H2 h y f t).1 a = some e := am_set_k (am_set_k q h7) h8
theorem H2_s7 : am_set (H2 h y f t) (y + 7) (i24 f') = H2 h y f' t := am_set3 (by omega)
theorem H2_s8 : am_set (H2 h y f t) (y + 8) (i24 t') = H2 h y f t' := am_set_set
theorem H2_mm (q : MM h y g m) : MM (H2 h y f t) y g m := ⟨H2_k q.1 (by omega) (by omega), H2_k q.2 (by omega) (by omega)⟩
theorem c_kth {X : Int32} {c : Nat → Bool} {z : Nat} (hz : z < 31) (hc : ∀ i, i < 31 → isF X (nI i) = c i) (hb : c z = true) : Vc G 1 m_X6_kth [.int X, .int (nI (cntB c z))] h (.int (nI z)) := by
  refine wc_in mt_X6_kth rfl (L := [.int X, .int (nI (cntB c z)), am_un, am_un]) rfl ?_
  refine r_push rfl ?_
  refine r_istore_2 rfl ?_
  refine r_push rfl ?_
  refine r_istore_3 rfl ?_
  refine wp_for z (fun j => [.int X, .int (nI (cntB c z)), .int (nI (cntB c j)), .int (nI j)]) (fun j hj kont => ?_) ?_
  · have hn := cntB_n (b := c) z
    have hn2 := cntB_n (b := c) j
    rw [cntB] at kont
    cases e : c j with
    | true =>
      have := cntB_lt hj e
      rw [e, if_pos rfl] at kont
      refine r_iload_3 rfl ?_
      refine r_push rfl ?_
      refine r_icgeF rfl (nI_lt (b := 31) (by omega) (by decide)) ?_
      refine r_iload_0 rfl ?_
      refine r_iload_3 rfl ?_
      refine r_invP_2 rfl rfl (by decide) (c_isOf _ _) ?_
      refine r_ifneT rfl (by rw [hc j (by omega), e]; decide) ?_
      refine r_iload_2 rfl ?_
      refine r_iload_1 rfl ?_
      refine r_icneT rfl (fun z => absurd (nI_inj (by omega) (by omega) z) (by omega)) ?_
      refine r_iinc_2 rfl ?_
      refine r_iinc_3 rfl ?_
      refine r_goto rfl ?_
      rw [nI_1, nI_1]
      exact kont
    | false =>
      rw [e, if_neg (by decide)] at kont
      refine r_iload_3 rfl ?_
      refine r_push rfl ?_
      refine r_icgeF rfl (nI_lt (b := 31) (by omega) (by decide)) ?_
      refine r_iload_0 rfl ?_
      refine r_iload_3 rfl ?_
      refine r_invP_2 rfl rfl (by decide) (c_isOf _ _) ?_
      refine r_ifneF rfl (by rw [hc j (by omega), e]; rfl) ?_
      refine r_goto rfl ?_
      refine r_iinc_3 rfl ?_
      refine r_goto rfl ?_
      rw [nI_1]
      exact kont
  · refine r_iload_3 rfl ?_
    refine r_push rfl ?_
    refine r_icgeF rfl (nI_lt hz (by decide)) ?_
    refine r_iload_0 rfl ?_
    refine r_iload_3 rfl ?_
    refine r_invP_2 rfl rfl (by decide) (c_isOf _ _) ?_
    refine r_ifneT rfl (by rw [hc z hz, hb]; decide) ?_
    refine r_iload_2 rfl ?_
    refine r_iload_1 rfl ?_
    refine r_icneF rfl (rfl) ?_
    refine r_iload_3 rfl ?_
    refine r_iret rfl ?_
    rfl
theorem c_leastBy {S N : Nat} {f0 t0 : Nat → Int32} (q : MM h y g m) (v : VR m) (of : h.1 (y + 7) = some (i24 f0)) (ot : h.1 (y + 8) = some (i24 t0)) (hS : S < 1024) (hN : N ≤ 6) : Ev G 2 m_X6_leastBy [.ref y, .int (nI S), .int (nI N)] h (fun r h' => r = .int (fulV (mF (Ws m) N S)) ∧ ∃ f t, h' = H2 h y f t) := by
  have wl := Ws_wl v
  have o := q.1
  have e0 : h = H2 h y f0 t0 := by
    unfold H2
    rw [am_set_id of, am_set_id ot]
  refine wc_in mt_X6_leastBy rfl (L := [.ref y, .int (nI S), .int (nI N), am_un, am_un, am_un]) rfl ?_
  refine r_push rfl ?_
  refine r_istore_3 rfl ?_
  refine wp_forHK 1024 (fun j => [.ref y, .int (nI S), .int (nI N), .int (nI j), am_un, am_un]) (fun j h' => ∃ f, h' = H2 h y f t0 ∧ ∀ p, p < j → f p = fulV (mF (Ws m) 0 p)) (fun j h' hj hK kont => ?_) (fun h' hK => ?_) ⟨f0, e0, fun p hp => absurd hp (Nat.not_lt_zero _)⟩
  · obtain ⟨f, rfl, hf⟩ := hK
    have ob : (H2 h y f t0).1 y = some (mcell y g) := H2_k o (by omega) (by omega)
    by_cases c : j = 0
    · subst c
      refine r_iload_3 rfl ?_
      refine r_push rfl ?_
      refine r_icgeF rfl (by decide) ?_
      refine r_aload_0 rfl ?_
      refine r_getf rfl (ob) (by rfl) ?_
      refine r_iload_3 rfl ?_
      refine r_iload_3 rfl ?_
      refine r_ifneF rfl (rfl) ?_
      refine r_push rfl ?_
      refine r_goto rfl ?_
      refine r_iast rfl (H2_7) (rfl) (show 0 < 1024 by decide) (by first | decide | omega) ?_
      refine r_iinc_3 rfl ?_
      refine r_goto rfl ?_
      rw [nI_1]
      refine kont _ ⟨_, H2_s7, fun p hp => ?_⟩
      rw [show p = 0 by omega, upd_eq]
      rfl
    · refine r_iload_3 rfl ?_
      refine r_push rfl ?_
      refine r_icgeF rfl (nI_lt hj (by decide)) ?_
      refine r_aload_0 rfl ?_
      refine r_getf rfl (ob) (by rfl) ?_
      refine r_iload_3 rfl ?_
      refine r_iload_3 rfl ?_
      refine r_ifneT rfl (fun z => c (nI_inj (c := 0) (by omega) (by decide) z)) ?_
      refine r_push rfl ?_
      refine r_iast rfl (H2_7) (rfl) (hj) (by first | decide | omega) ?_
      refine r_iinc_3 rfl ?_
      refine r_goto rfl ?_
      rw [nI_1]
      refine kont _ ⟨_, H2_s7, fun p hp => ?_⟩
      by_cases d : p = j
      · subst d; rw [upd_eq, mF_z, if_neg c]; rfl
      · rw [upd_ne d]; exact hf p (by omega)
  obtain ⟨f, rfl, hf⟩ := hK
  refine r_iload_3 rfl ?_
  refine r_push rfl ?_
  refine r_icgeT rfl (by decide) ?_
  refine r_push rfl ?_
  refine r_istore_3 rfl ?_
  skip
  refine wp_forH N (fun k Ls h' => (∃ x4 x5, Ls = [.ref y, .int (nI S), .int (nI N), .int (nI k), x4, x5]) ∧ ∃ f t, h' = H2 h y f t ∧ ∀ p, inS p S → f p = fulV (mF (Ws m) k p)) (fun k Ls h' hk hK kont => ?_) (fun Ls h' hK => ?_) _ _ ⟨⟨am_un, am_un, rfl⟩, f, t0, rfl, fun p hp => hf p (by have := inS_le hp; omega)⟩
  · obtain ⟨⟨x4, x5, rfl⟩, f, t, rfl, hf⟩ := hK
    clear e0 of ot
    have down : ∀ (c : Nat) (t : Nat → Int32) (x5 : Value), c ≤ S + 1 → (∀ p, c ≤ p → inS p S → t p = fulV (mF (Ws m) (k + 1) p)) → Wp G 2 mt_X6_leastBy 42 [.ref y, .int (nI S), .int (nI N), .int (nI k), .int (nI c - 1), x5] [] (H2 h y f t) (fun R' => ∃ r h', R' = .inl (some r, h') ∧ r = .int (fulV (mF (Ws m) N S)) ∧ ∃ f t, h' = H2 h y f t) := by
      intro c
      induction c with
      | zero =>
        intro t x5 hc ht
        refine r_iload_4 rfl ?_
        refine r_ifltT rfl (by decide) ?_
        refine r_push rfl ?_
        refine r_istore_4 rfl ?_
        skip
        refine wp_forHK (S + 1) (fun j => [.ref y, .int (nI S), .int (nI N), .int (nI k), .int (nI j), x5]) (fun j h' => ∃ f', h' = H2 h y f' t ∧ ∀ p, p < j → inS p S → f' p = fulV (mF (Ws m) (k + 1) p)) (fun j h' hj hK kont2 => ?_) (fun h' hK => ?_) ⟨f, rfl, fun p hp => absurd hp (Nat.not_lt_zero _)⟩
        · obtain ⟨f', rfl, hf'⟩ := hK
          have ob : (H2 h y f' t).1 y = some (mcell y g) := H2_k o (by omega) (by omega)
          by_cases d : inS j S
          · refine r_iload_4 rfl ?_
            refine r_iload_1 rfl ?_
            refine r_icgtF rfl (nI_le (by omega) (by omega)) ?_
            refine r_aload_0 rfl ?_
            refine r_getf rfl (ob) (by rfl) ?_
            refine r_iload_4 rfl ?_
            refine r_iload_4 rfl ?_
            refine r_iload_1 rfl ?_
            refine r_push rfl ?_
            refine r_ixor rfl ?_
            refine r_iand rfl ?_
            refine r_ifneF rfl ((sub_iff (by omega)).mpr d) ?_
            refine r_aload_0 rfl ?_
            refine r_getf rfl (ob) (by rfl) ?_
            refine r_iload_4 rfl ?_
            refine r_iald rfl (H2_8) (rfl) (show j < 1024 by omega) (by first | decide | omega) ?_
            refine r_goto rfl ?_
            refine r_iast rfl (H2_7) (rfl) (show j < 1024 by omega) (by first | decide | omega) ?_
            refine r_iinc_4 rfl ?_
            refine r_goto rfl ?_
            rw [nI_1]
            refine kont2 _ ⟨_, H2_s7, fun p hp hps => ?_⟩
            by_cases e : p = j
            · subst e; rw [upd_eq]; exact ht p (Nat.zero_le _) hps
            · rw [upd_ne e]; exact hf' p (by omega) hps
          · refine r_iload_4 rfl ?_
            refine r_iload_1 rfl ?_
            refine r_icgtF rfl (nI_le (by omega) (by omega)) ?_
            refine r_aload_0 rfl ?_
            refine r_getf rfl (ob) (by rfl) ?_
            refine r_iload_4 rfl ?_
            refine r_iload_4 rfl ?_
            refine r_iload_1 rfl ?_
            refine r_push rfl ?_
            refine r_ixor rfl ?_
            refine r_iand rfl ?_
            refine r_ifneT rfl (fun z => d ((sub_iff (by omega)).mp z)) ?_
            refine r_aload_0 rfl ?_
            refine r_getf rfl (ob) (by rfl) ?_
            refine r_iload_4 rfl ?_
            refine r_iald rfl (H2_7) (rfl) (show j < 1024 by omega) (by first | decide | omega) ?_
            refine r_iast rfl (H2_7) (rfl) (show j < 1024 by omega) (by first | decide | omega) ?_
            refine r_iinc_4 rfl ?_
            refine r_goto rfl ?_
            rw [nI_1]
            refine kont2 _ ⟨_, H2_s7, fun p hp hps => ?_⟩
            by_cases e : p = j
            · subst e; exact absurd hps d
            · rw [upd_ne e]; exact hf' p (by omega) hps
        · obtain ⟨f', rfl, hf'⟩ := hK
          refine r_iload_4 rfl ?_
          refine r_iload_1 rfl ?_
          refine r_icgtT rfl (nI_lt (by omega) (by omega)) ?_
          refine r_iinc_3 rfl ?_
          refine r_goto rfl ?_
          rw [nI_1]
          exact kont _ _ ⟨⟨_, _, rfl⟩, f', t, rfl, fun p hp => hf' p (by have := inS_le hp; omega) hp⟩
      | succ s ih =>
        intro t x5 hc ht
        have e1 : nI (s + 1) - 1 = nI s := by rw [show (1 : Int32) = nI 1 from rfl, nI_sub (by omega)]; rfl
        rw [e1]
        by_cases d : inS s S
        · have ob : ∀ t, (H2 h y f t).1 y = some (mcell y g) := fun t => H2_k o (by omega) (by omega)
          have inner : ∀ (u p : Nat) (bb : Option Nat) (t : Nat → Int32), p ≤ u → inS p s → (∀ v, bb = some v → v ≤ 400) → t s = fulV bb → (∀ p, s + 1 ≤ p → inS p S → t p = fulV (mF (Ws m) (k + 1) p)) → mLp (Ws m) (mF (Ws m) k) s u p bb = mF (Ws m) (k + 1) s → Wp G 2 mt_X6_leastBy 77 [.ref y, .int (nI S), .int (nI N), .int (nI k), .int (nI s), .int (nI p)] [] (H2 h y f t) (fun R' => ∃ r h', R' = .inl (some r, h') ∧ r = .int (fulV (mF (Ws m) N S)) ∧ ∃ f t, h' = H2 h y f t) := by
            intro u
            induction u with
            | zero =>
              intro p bb t hp hi hb hts htp hm
              have : p = 0 := by omega
              subst this
              refine r_iload_5 rfl ?_
              refine r_ifleT rfl (by decide) ?_
              refine r_iinc_4 rfl ?_
              refine r_goto rfl ?_
              rw [add_m1]
              refine ih t _ (by omega) (fun p hp hps => ?_)
              by_cases e : p = s
              · subst e; rw [hts, ← hm]; rfl
              · exact htp p (by omega) hps
            | succ u ihu =>
              intro p bb t hp hi hb hts htp hm
              rw [mLp] at hm
              by_cases z : p = 0
              · rw [if_pos z] at hm
                subst z
                refine r_iload_5 rfl ?_
                refine r_ifleT rfl (by decide) ?_
                refine r_iinc_4 rfl ?_
                refine r_goto rfl ?_
                rw [add_m1]
                refine ih t _ (by omega) (fun p hp hps => ?_)
                by_cases e : p = s
                · subst e; rw [hts, ← hm]
                · exact htp p (by omega) hps
              · rw [if_neg z] at hm
                have hx := xor_lt hi (by omega)
                have hle := inS_le hi
                have hle2 := inS_le d
                have hlt : (p - 1) &&& s ≤ p - 1 := Nat.and_le_left
                have e := fulV_min hb (wl.2.1 p) (fun v e => mF_le wl k (s ^^^ p) v e)
                have ex := hf _ (inS_tr (inS_xor hi) d)
                have ew := (weightN_ok v (nI p)).1
                have again := ihu ((p - 1) &&& s) _ (upd t s (minF (t s) (maxF (weightF m (nI p)) (f (s ^^^ p))))) (by omega) inS_next e.2 (by rw [upd_eq, hts, ex, ew, e.1]; rfl) (fun p hp hps => by rw [upd_ne (by omega)]; exact htp p hp hps) hm
                refine r_iload_5 rfl ?_
                refine r_ifleF rfl (nI_lt (a := 0) (by omega) (by omega)) ?_
                refine r_aload_0 rfl ?_
                refine r_getf rfl (ob _) (by rfl) ?_
                refine r_iload_4 rfl ?_
                refine r_aload_0 rfl ?_
                refine r_getf rfl (ob _) (by rfl) ?_
                refine r_iload_4 rfl ?_
                refine r_iald rfl (H2_8) (rfl) (show s < 1024 by omega) (by first | decide | omega) ?_
                refine r_aload_0 rfl ?_
                refine r_iload_5 rfl ?_
                refine r_invvP_1 rfl (ob _) rfl rfl (by decide) (c_mweightOf (H2_mm q) v _) ?_
                refine r_aload_0 rfl ?_
                refine r_getf rfl (ob _) (by rfl) ?_
                refine r_iload_4 rfl ?_
                refine r_iload_5 rfl ?_
                refine r_push rfl ?_
                refine r_ixor rfl ?_
                refine r_iand rfl ?_
                refine r_iald rfl (H2_7) (xor_I hi) (show s ^^^ p < 1024 by omega) (by first | decide | omega) ?_
                refine r_invP_2 rfl rfl (by decide) (c_greater _ _) ?_
                refine r_invP_2 rfl rfl (by decide) (c_lesser _ _) ?_
                refine r_iast rfl (H2_8) (rfl) (show s < 1024 by omega) (by first | decide | omega) ?_
                refine r_iload_5 rfl ?_
                refine r_push rfl ?_
                refine r_isub rfl ?_
                refine r_iload_4 rfl ?_
                refine r_iand rfl ?_
                refine r_istore_5 rfl ?_
                refine r_goto rfl ?_
                rw [next_I (by omega)]
                rw [show am_set (H2 h y f t) (y + 8) (.inl (0, 1024, .inl (upd t s (minF (t s) (maxF (weightF m (nI p)) (f (s ^^^ p))))))) = H2 h y f (upd t s (minF (t s) (maxF (weightF m (nI p)) (f (s ^^^ p))))) from H2_s8]
                exact again
          have hle2 := inS_le d
          refine r_iload_4 rfl ?_
          refine r_ifltF rfl (nI_le (a := 0) (by omega) (by omega)) ?_
          refine r_iload_4 rfl ?_
          refine r_iload_1 rfl ?_
          refine r_push rfl ?_
          refine r_ixor rfl ?_
          refine r_iand rfl ?_
          refine r_ifeqT rfl ((sub_iff (by omega)).mpr d) ?_
          refine r_aload_0 rfl ?_
          refine r_getf rfl (ob _) (by rfl) ?_
          refine r_iload_4 rfl ?_
          refine r_aload_0 rfl ?_
          refine r_getf rfl (ob _) (by rfl) ?_
          refine r_iload_4 rfl ?_
          refine r_iald rfl (H2_7) (rfl) (show s < 1024 by omega) (by first | decide | omega) ?_
          refine r_iast rfl (H2_8) (rfl) (show s < 1024 by omega) (by first | decide | omega) ?_
          refine r_iload_4 rfl ?_
          refine r_istore_5 rfl ?_
          rw [show am_set (H2 h y f t) (y + 8) (.inl (0, 1024, .inl (upd t s (f s)))) = H2 h y f (upd t s (f s)) from H2_s8]
          exact inner s s _ _ (Nat.le_refl _) (Nat.and_self _) (fun v e => mF_le wl k s v e) (by rw [upd_eq]; exact hf s d) (fun p hp hps => by rw [upd_ne (by omega)]; exact ht p hp hps) mF_s.symm
        · refine r_iload_4 rfl ?_
          refine r_ifltF rfl (nI_le (a := 0) (by omega) (by omega)) ?_
          refine r_iload_4 rfl ?_
          refine r_iload_1 rfl ?_
          refine r_push rfl ?_
          refine r_ixor rfl ?_
          refine r_iand rfl ?_
          refine r_ifeqF rfl (fun z => d ((sub_iff (by omega)).mp z)) ?_
          refine r_goto rfl ?_
          refine r_iinc_4 rfl ?_
          refine r_goto rfl ?_
          rw [add_m1]
          refine ih t _ (by omega) (fun p hp hps => ?_)
          by_cases e : p = s
          · subst e; exact absurd hps d
          · exact ht p (by omega) hps
    refine r_iload_3 rfl ?_
    refine r_iload_2 rfl ?_
    refine r_icgeF rfl (nI_lt hk (by omega)) ?_
    refine r_iload_1 rfl ?_
    refine r_istore_4 rfl ?_
    have e1 : nI S = nI (S + 1) - 1 := by rw [show (1 : Int32) = nI 1 from rfl, nI_sub (by omega)]; rfl
    have dn := down (S + 1) t x5 (Nat.le_refl _) (fun p hp hps => by have := inS_le hps; omega)
    rw [← e1] at dn
    exact dn
  · obtain ⟨⟨x4, x5, rfl⟩, f, t, rfl, hf⟩ := hK
    refine r_iload_3 rfl ?_
    refine r_iload_2 rfl ?_
    refine r_icgeT rfl (Int32.le_refl _) ?_
    refine r_aload_0 rfl ?_
    refine r_getf rfl (H2_k o (by omega) (by omega)) (by rfl) ?_
    refine r_iload_1 rfl ?_
    refine r_iald rfl (H2_7) (rfl) (hS) (by first | decide | omega) ?_
    refine r_iret rfl ?_
    exact ⟨_, _, rfl, by rw [hf S (Nat.and_self _)], f, t, rfl⟩
end
