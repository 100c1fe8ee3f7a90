/-! SHARE: the system gives -/
set_option maxRecDepth 100000
section
variable {G : am_G} {h : am_H} {x y : Nat} {hi : Bool} {m b g : Nat → Int32} {l : Value} {W R : Nat → Nat}
theorem c_x5can {n st v j : Nat} {fs fl fg : Nat → Int32} (wl : WL W) (o : h.1 (x + 65) = some (soI x (nI n) (nI st))) (os : h.1 (x + 68) = some (.inl (0, 1024, .inl fs))) (ol : h.1 (x + 69) = some (.inl (0, 6, .inl fl))) (og : h.1 (x + 70) = some (.inl (1, 1024, .inl fg))) (hs : st < 1024) (hn : n ≤ 6) (hj : j < 11) (hv : v ≤ 400) (hS : ∀ p, inS p st → fs p = nI (W p)) (hL : ∀ k, k < 6 → fl k = nI (v - R k) ∧ R k ≤ v) : Ev G 1 m_X5_canGive [.ref (x + 65), .int (nI j), .int (nI v)] h (fun r h' => r = .int (bI (cG W R n (hiS st j))) ∧ ∃ fg', h' = am_set h (x + 70) (.inl (1, 1024, .inl fg'))) := by
  have hL0 : inS (hiS st j) st := inS_of fun i hi => by
    rw [hiS_bit] at hi
    cases e : st.testBit i with
    | true => rfl
    | false => rw [e, Bool.and_false] at hi; cases hi
  have hLt : hiS st j < 1024 := by have := inS_le hL0; omega
  obtain ⟨L, eL⟩ : ∃ L, L = hiS st j := ⟨_, rfl⟩
  rw [← eL] at hL0 hLt
  refine wc_in mt_X5_canGive rfl (L := [.ref (x + 65), .int (nI j), .int (nI v), am_un, am_un, am_un]) rfl ?_
  refine r_aload_0 rfl ?_
  refine r_getf rfl o rfl ?_
  refine r_push rfl ?_
  refine r_iload_1 rfl ?_
  refine r_ishl rfl ?_
  refine r_ineg rfl ?_
  refine r_iand rfl ?_
  rw [show nI st &&& -((1 : Int32) <<< (nI j &&& 31)) = nI L by rw [eL]; exact hi_I hj]
  refine r_istore_3 rfl ?_
  refine r_aload_0 rfl ?_
  refine r_getf rfl o rfl ?_
  refine r_push rfl ?_
  refine r_invV rfl rfl rfl (by decide) (c_fillZ (by decide) og) ?_
  refine r_aload_0 rfl ?_
  refine r_getf rfl (am_set_k o (by omega)) rfl ?_
  refine r_push rfl ?_
  refine r_push rfl ?_
  refine r_zast rfl am_set_at (show (0 : Int32) = nI 0 from rfl) (by decide) (by decide) ?_
  rw [am_set_set, ← eL]
  refine r_push rfl ?_
  refine r_istore_4 rfl ?_
  have e0 : ∀ q, inS q L → upd (fun k => if k < 1024 then 0 else fg k) 0 (vp_nar .boolean 1) q = bI (cG W R 0 q) := fun q hq => by
    have := inS_le hq
    rw [cG_z]
    by_cases c : q = 0
    · subst c; rw [upd_eq]; rfl
    · rw [upd_ne c, decide_eq_false c]
      show (if q < 1024 then (0 : Int32) else fg q) = 0
      rw [if_pos (by omega)]
  refine wp_forH n (fun k Ls h' => (∃ x5, Ls = [.ref (x + 65), .int (nI j), .int (nI v), .int (nI L), .int (nI k), x5]) ∧ ∃ f, h' = am_set h (x + 70) (.inl (1, 1024, .inl f)) ∧ ∀ q, inS q L → f q = bI (cG W R k q)) (fun k Ls h' hk hK kont => ?_) (fun Ls h' hK => ?_) _ _ ⟨⟨am_un, rfl⟩, _, rfl, e0⟩
  · obtain ⟨⟨x5, rfl⟩, f, rfl, hf⟩ := hK
    have inner : ∀ (u p : Nat) (f : Nat → Int32), p ≤ u → inS p L → (∀ q, inS q L → f q = bI (cG W R (if q ≤ p then k else k + 1) q)) → Wp G 1 mt_X5_canGive 40 [.ref (x + 65), .int (nI j), .int (nI v), .int (nI L), .int (nI k), .int (nI p)] [] (am_set h (x + 70) (.inl (1, 1024, .inl f))) (fun R' => ∃ r h', R' = .inl (some r, h') ∧ r = .int (bI (cG W R n L)) ∧ ∃ fg', h' = am_set h (x + 70) (.inl (1, 1024, .inl fg'))) := by
      intro u
      induction u with
      | zero =>
        intro p f hp hi hf
        have : p = 0 := by omega
        subst this
        refine r_iload_5 rfl ?_
        refine r_ifleT rfl (by decide) ?_
        refine r_iinc_4 rfl ?_
        refine r_goto rfl ?_
        rw [nI_1]
        refine kont _ _ ⟨⟨_, rfl⟩, f, rfl, fun q hq => ?_⟩
        rw [hf q hq]
        by_cases c : q = 0
        · subst c; rw [cG_0, cG_0]
        · rw [if_neg (by omega)]
      | succ u ih =>
        intro p f hp hi hf
        by_cases z : p = 0
        · subst z
          refine r_iload_5 rfl ?_
          refine r_ifleT rfl (by decide) ?_
          refine r_iinc_4 rfl ?_
          refine r_goto rfl ?_
          rw [nI_1]
          refine kont _ _ ⟨⟨_, rfl⟩, f, rfl, fun q hq => ?_⟩
          rw [hf q hq]
          by_cases c : q = 0
          · subst c; rw [cG_0, cG_0]
          · rw [if_neg (by omega)]
        · have hle := inS_le hi
          have hlt : (p - 1) &&& L ≤ p - 1 := Nat.and_le_left
          have ep := hf p hi
          rw [if_pos (Nat.le_refl _)] at ep
          have nxt : ∀ f' : Nat → Int32, f' p = bI (cG W R (k + 1) p) → (∀ q, q ≠ p → f' q = f q) → ∀ q, inS q L → f' q = bI (cG W R (if q ≤ (p - 1) &&& L then k else k + 1) q) := fun f' h1 h2 q hq => by
            by_cases c : q = p
            · subst c; rw [h1, if_neg (by omega)]
            · rw [h2 q c, hf q hq]
              by_cases d : q ≤ p
              · rw [if_pos d, if_pos (sub_next p L q hi hq (by omega))]
              · rw [if_neg d, if_neg (by omega)]
          cases c : cG W R k p with
          | true =>
            rw [c] at ep
            have again := ih ((p - 1) &&& L) f (by omega) inS_next (nxt f (by rw [ep, cG_s, c]; rfl) (fun _ _ => rfl))
            refine r_iload_5 rfl ?_
            refine r_ifleF rfl (nI_lt (a := 0) (by omega) (by omega)) ?_
            refine r_aload_0 rfl ?_
            refine r_getf rfl (am_set_k o (by omega)) (by rfl) ?_
            refine r_iload_5 rfl ?_
            refine r_zald rfl (am_set_at) (rfl) (show p < 1024 by omega) (by first | decide | omega) ?_
            refine r_ifneT rfl (by rw [ep]; decide) ?_
            refine r_iload_5 rfl ?_
            refine r_push rfl ?_
            refine r_isub rfl ?_
            refine r_iload_3 rfl ?_
            refine r_iand rfl ?_
            refine r_istore_5 rfl ?_
            refine r_goto rfl ?_
            rw [next_I (by omega)]
            exact again
          | false =>
            rw [c] at ep
            have cf := c_x5fits (G := G) (k := k) (gg := cG W R k) wl (am_set_k o (show x + 65 ≠ x + 70 by omega) : (am_set h (x + 70) (.inl (1, 1024, .inl f))).1 (x + 65) = _) (am_set_k os (by omega)) (am_set_k ol (by omega)) am_set_at (show p < 1024 by omega) (show k < 6 by omega) hv (fun q hq => hS q (inS_tr (inS_tr hq hi) hL0)) (hL k (by omega)) (fun q hq hqp => by rw [hf q (inS_tr hq hi), if_pos (by omega)])
            have again := ih ((p - 1) &&& L) (upd f p (vp_nar .boolean (bI (gLp W (R k) (cG W R k) p p p)))) (by omega) inS_next (nxt _ (by rw [upd_eq, nar_bz, cG_s, c, Bool.false_or]) (fun q hq => upd_ne hq))
            refine r_iload_5 rfl ?_
            refine r_ifleF rfl (nI_lt (a := 0) (by omega) (by omega)) ?_
            refine r_aload_0 rfl ?_
            refine r_getf rfl (am_set_k o (by omega)) (by rfl) ?_
            refine r_iload_5 rfl ?_
            refine r_zald rfl (am_set_at) (rfl) (show p < 1024 by omega) (by first | decide | omega) ?_
            refine r_ifneF rfl (by rw [ep]; decide) ?_
            refine r_aload_0 rfl ?_
            refine r_getf rfl (am_set_k o (by omega)) (by rfl) ?_
            refine r_iload_5 rfl ?_
            refine r_aload_0 rfl ?_
            refine r_iload_5 rfl ?_
            refine r_iload_4 rfl ?_
            refine r_iload_2 rfl ?_
            refine r_invvP_3 rfl (am_set_k o (by omega)) rfl rfl (by decide) (cf) ?_
            refine r_zast rfl (am_set_at) (rfl) (show p < 1024 by omega) (by first | decide | omega) ?_
            refine r_iload_5 rfl ?_
            refine r_push rfl ?_
            refine r_isub rfl ?_
            refine r_iload_3 rfl ?_
            refine r_iand rfl ?_
            refine r_istore_5 rfl ?_
            refine r_goto rfl ?_
            rw [next_I (by omega), am_set_set]
            exact again
    refine r_iload_4 rfl ?_
    refine r_aload_0 rfl ?_
    refine r_getf rfl (am_set_k o (by omega)) rfl ?_
    refine r_icgeF rfl (nI_lt hk (by omega)) ?_
    refine r_iload_3 rfl ?_
    refine r_istore_5 rfl ?_
    exact inner L L f (Nat.le_refl _) (Nat.and_self _) (fun q hq => by rw [if_pos (inS_le hq)]; exact hf q hq)
  · obtain ⟨⟨x5, rfl⟩, f, rfl, hf⟩ := hK
    refine r_iload_4 rfl ?_
    refine r_aload_0 rfl ?_
    refine r_getf rfl (am_set_k o (by omega)) (by rfl) ?_
    refine r_icgeT rfl (Int32.le_refl _) ?_
    refine r_aload_0 rfl ?_
    refine r_getf rfl (am_set_k o (by omega)) (by rfl) ?_
    refine r_iload_3 rfl ?_
    refine r_zald rfl (am_set_at) (rfl) (hLt) (by first | decide | omega) ?_
    refine r_zret rfl (by rw [hf L (Nat.and_self _)]; cases cG W R n L <;> decide) ?_
    exact ⟨_, _, rfl, by rw [hf L (Nat.and_self _)], f, rfl⟩
theorem c_x5takes {n st v t s : Nat} {fs fl fg : Nat → Int32} (wl : WL W) (hx : h.1 x = some (.inr (0, xobj x hi))) (q : WA h (x + 1) m b l) (o : h.1 (x + 65) = some (soI x (nI n) (nI st))) (os : h.1 (x + 68) = some (.inl (0, 1024, .inl fs))) (ol : h.1 (x + 69) = some (.inl (0, 6, .inl fl))) (og : h.1 (x + 70) = some (.inl (1, 1024, .inl fg))) (hs : st < 1024) (hn : n ≤ 6) (hs10 : s < 10) (ht : t < n) (hv : v ≤ 400) (hS : ∀ p, inS p st → fs p = nI (W p)) (hL : ∀ k, k < 6 → fl k = nI (v - R k) ∧ R k ≤ v) (hw : m (71 + 6 * s) = nI (W (2 ^ s))) : Ev G 2 m_X5_takes [.ref (x + 65), .int (nI t), .int (nI s), .int (nI v)] h (fun r h' => r = .int (bI (okT W R n (W (2 ^ s)) (hiS st (s + 1)) t)) ∧ ∃ fg', h' = am_set (am_set h (x + 69) (.inl (0, 6, .inl (if okT W R n (W (2 ^ s)) (hiS st (s + 1)) t = true then upd fl t (nI (v - (R t - W (2 ^ s)))) else fl)))) (x + 70) (.inl (1, 1024, .inl fg'))) := by
  have ht6 : t < 6 := by omega
  have a1 := wa_o q
  have a2 := wa_we q
  have eL := (hL t ht6).1
  have hR := (hL t ht6).2
  have hW := wl.2.1 (2 ^ s)
  have ew : cl 10 (fun s => m (71 + 6 * s)) s = nI (W (2 ^ s)) := by rw [cl_in hs10]; exact hw
  have e1 : fl t + cl 10 (fun s => m (71 + 6 * s)) s = nI (v - R t + W (2 ^ s)) := by rw [eL, ew, nI_add]
  have e2 : upd (upd fl t (fl t + cl 10 (fun s => m (71 + 6 * s)) s)) t (upd fl t (fl t + cl 10 (fun s => m (71 + 6 * s)) s) t - cl 10 (fun s => m (71 + 6 * s)) s) = fl := by
    rw [upd_eq, upd_upd, e1, ew, nI_sub (by omega), show v - R t + W (2 ^ s) - W (2 ^ s) = v - R t by omega, ← eL]
    exact upd_id rfl
  refine wc_in mt_X5_takes rfl (L := [.ref (x + 65), .int (nI t), .int (nI s), .int (nI v)]) rfl ?_
  by_cases d : W (2 ^ s) ≤ R t
  · have e3 : fl t + cl 10 (fun s => m (71 + 6 * s)) s = nI (v - (R t - W (2 ^ s))) := by rw [e1]; congr 1; omega
    have hL' : ∀ k, k < 6 → upd fl t (fl t + cl 10 (fun s => m (71 + 6 * s)) s) k = nI (v - updN R t (R t - W (2 ^ s)) k) ∧ updN R t (R t - W (2 ^ s)) k ≤ v := fun k hk => by
      by_cases c : k = t
      · subst c
        rw [upd_eq, updN_eq]
        exact ⟨e3, by omega⟩
      · rw [upd_ne c, updN_ne c]
        exact hL k hk
    have cc := c_x5can (G := G) (j := s + 1) wl (am_set_k o (show x + 65 ≠ x + 69 by omega) : (am_set h (x + 69) (.inl (0, 6, .inl (upd fl t (fl t + cl 10 (fun s => m (71 + 6 * s)) s))))).1 (x + 65) = _) (am_set_k os (by omega)) am_set_at (am_set_k og (by omega)) hs hn (by omega) hv hS hL'
    rw [← nI_1] at cc
    have eo : okT W R n (W (2 ^ s)) (hiS st (s + 1)) t = cG W (updN R t (R t - W (2 ^ s))) n (hiS st (s + 1)) := by unfold okT; rw [decide_eq_true d, Bool.true_and]
    rw [eo]
    refine r_aload_0 rfl ?_
    refine r_getf rfl (o) (by rfl) ?_
    refine r_iload_1 rfl ?_
    refine r_dup2 rfl ?_
    refine r_iald rfl (ol) (rfl) (ht6) (by first | decide | omega) ?_
    refine r_aload_0 rfl ?_
    refine r_getf rfl (o) (by rfl) ?_
    refine r_getf rfl (hx) (by rfl) ?_
    refine r_getf rfl (a1) (by rfl) ?_
    refine r_iload_2 rfl ?_
    refine r_iald rfl (a2) (rfl) (hs10) (by first | decide | omega) ?_
    refine r_iadd rfl ?_
    refine r_iast rfl (ol) (rfl) (ht6) (by first | decide | omega) ?_
    refine r_aload_0 rfl ?_
    refine r_getf rfl (am_set_k o (by omega)) (by rfl) ?_
    refine r_iload_1 rfl ?_
    refine r_iald rfl (am_set_at) (rfl) (ht6) (by first | decide | omega) ?_
    refine r_iload_3 rfl ?_
    refine r_icgtF rfl (by rw [upd_eq, e3]; exact nI_le (by omega) (by omega)) ?_
    skip
    refine r_aload_0 rfl ?_
    refine r_iload_2 rfl ?_
    refine r_push rfl ?_
    refine r_iadd rfl ?_
    refine r_iload_3 rfl ?_
    refine r_invvE rfl rfl (am_set_k o (by omega)) rfl rfl (by decide) cc ?_
    rintro r h1 ⟨rfl, fg', rfl⟩
    cases c : cG W (updN R t (R t - W (2 ^ s))) n (hiS st (s + 1)) with
    | true =>
      refine r_ifeqF rfl (by decide) ?_
      refine r_push rfl ?_
      refine r_zret rfl (by first | decide | assumption) ?_
      exact ⟨_, _, rfl, rfl, fg', by rw [if_pos rfl, e3]⟩
    | false =>
      refine r_ifeqT rfl (rfl) ?_
      refine r_aload_0 rfl ?_
      refine r_getf rfl (am_set_k (am_set_k o (by omega)) (by omega)) (by rfl) ?_
      refine r_iload_1 rfl ?_
      refine r_dup2 rfl ?_
      refine r_iald rfl (am_set_k am_set_at (by omega)) (rfl) (ht6) (by first | decide | omega) ?_
      refine r_aload_0 rfl ?_
      refine r_getf rfl (am_set_k (am_set_k o (by omega)) (by omega)) (by rfl) ?_
      refine r_getf rfl (am_set_k (am_set_k hx (by omega)) (by omega)) (by rfl) ?_
      refine r_getf rfl (am_set_k (am_set_k a1 (by omega)) (by omega)) (by rfl) ?_
      refine r_iload_2 rfl ?_
      refine r_iald rfl (am_set_k (am_set_k a2 (by omega)) (by omega)) (rfl) (hs10) (by first | decide | omega) ?_
      refine r_isub rfl ?_
      refine r_iast rfl (am_set_k am_set_at (by omega)) (rfl) (ht6) (by first | decide | omega) ?_
      refine r_push rfl ?_
      refine r_zret rfl (by first | decide | assumption) ?_
      exact ⟨_, _, rfl, rfl, fg', by rw [if_neg (by decide), am_set_comm (a := x + 70) (c := x + 69) (by omega), am_set_set, e2]⟩
  · have eo : okT W R n (W (2 ^ s)) (hiS st (s + 1)) t = false := by unfold okT; rw [decide_eq_false d, Bool.false_and]
    rw [eo]
    refine r_aload_0 rfl ?_
    refine r_getf rfl (o) (by rfl) ?_
    refine r_iload_1 rfl ?_
    refine r_dup2 rfl ?_
    refine r_iald rfl (ol) (rfl) (ht6) (by first | decide | omega) ?_
    refine r_aload_0 rfl ?_
    refine r_getf rfl (o) (by rfl) ?_
    refine r_getf rfl (hx) (by rfl) ?_
    refine r_getf rfl (a1) (by rfl) ?_
    refine r_iload_2 rfl ?_
    refine r_iald rfl (a2) (rfl) (hs10) (by first | decide | omega) ?_
    refine r_iadd rfl ?_
    refine r_iast rfl (ol) (rfl) (ht6) (by first | decide | omega) ?_
    refine r_aload_0 rfl ?_
    refine r_getf rfl (am_set_k o (by omega)) (by rfl) ?_
    refine r_iload_1 rfl ?_
    refine r_iald rfl (am_set_at) (rfl) (ht6) (by first | decide | omega) ?_
    refine r_iload_3 rfl ?_
    refine r_icgtT rfl (by rw [upd_eq, e1]; exact nI_lt (by omega) (by omega)) ?_
    refine r_aload_0 rfl ?_
    refine r_getf rfl (am_set_k o (by omega)) (by rfl) ?_
    refine r_iload_1 rfl ?_
    refine r_dup2 rfl ?_
    refine r_iald rfl (am_set_at) (rfl) (ht6) (by first | decide | omega) ?_
    refine r_aload_0 rfl ?_
    refine r_getf rfl (am_set_k o (by omega)) (by rfl) ?_
    refine r_getf rfl (am_set_k hx (by omega)) (by rfl) ?_
    refine r_getf rfl (am_set_k a1 (by omega)) (by rfl) ?_
    refine r_iload_2 rfl ?_
    refine r_iald rfl (am_set_k a2 (by omega)) (rfl) (hs10) (by first | decide | omega) ?_
    refine r_isub rfl ?_
    refine r_iast rfl (am_set_at) (rfl) (ht6) (by first | decide | omega) ?_
    refine r_push rfl ?_
    refine r_zret rfl (by first | decide | assumption) ?_
    exact ⟨_, _, rfl, rfl, fg, by rw [if_neg (by decide), am_set_set, e2, am_set_id ol, am_set_id og]⟩
end
