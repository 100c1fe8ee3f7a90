/-! SHARE: the model gives -/
set_option maxRecDepth 100000
section
variable {G : am_G} {h : am_H} {x y : Nat} {m b g : Nat → Int32} {W R : Nat → Nat} {f t f' t' : Nat → Int32}
theorem c_ycan {S N : Nat} {f0 fr : Nat → Int32} (q : MM h y g m) (v : VR m) (of : h.1 (y + 7) = some (i24 f0)) (or : h.1 (y + 9) = some (.inl (0, 6, .inl fr))) (hS : S < 1024) (hN : N ≤ 6) (hR : ∀ k, k < N → fr k = nI (R k) ∧ R k ≤ 400) : Ev G 2 m_X6_canGive [.ref y, .int (nI S), .int (nI N)] h (fun r h' => r = .int (bI (cG (Ws m) R N S)) ∧ ∃ f, h' = am_set h (y + 7) (i24 f)) := by
  have wl := Ws_wl v
  have o := q.1
  have ob : ∀ f, (am_set h (y + 7) (i24 f)).1 y = some (mcell y g) := fun f => am_set_k o (by omega)
  have orb : ∀ f, (am_set h (y + 7) (i24 f)).1 (y + 9) = some (.inl (0, 6, .inl fr)) := fun f => am_set_k or (by omega)
  have mm : ∀ f, MM (am_set h (y + 7) (i24 f)) y g m := fun f => ⟨ob f, am_set_k q.2 (by omega)⟩
  refine wc_in mt_X6_canGive rfl (L := [.ref y, .int (nI S), .int (nI N), am_un, am_un, am_un]) rfl ?_
  refine r_push rfl ?_
  refine r_istore_3 rfl ?_
  refine wp_forHK 1024 (fun j => [.ref y, .int (nI S), .int (nI N), .int (nI j), am_un, am_un]) (fun j h' => ∃ f, h' = am_set h (y + 7) (i24 f) ∧ ∀ p, p < j → f p = bI (cG (Ws m) R 0 p)) (fun j h' hj hK kont => ?_) (fun h' hK => ?_) ⟨f0, (am_set_id of).symm, fun p hp => absurd hp (Nat.not_lt_zero _)⟩
  · obtain ⟨f, rfl, hf⟩ := hK
    by_cases c : j = 0
    · subst c
      refine r_iload_3 rfl ?_
      refine r_push rfl ?_
      refine r_icgeF rfl (by decide) ?_
      refine r_aload_0 rfl ?_
      refine r_getf rfl (ob _) (by rfl) ?_
      refine r_iload_3 rfl ?_
      refine r_iload_3 rfl ?_
      refine r_ifneF rfl (rfl) ?_
      refine r_push rfl ?_
      refine r_goto rfl ?_
      refine r_iast rfl (am_set_at) (rfl) (show 0 < 1024 by decide) (by first | decide | omega) ?_
      refine r_iinc_3 rfl ?_
      refine r_goto rfl ?_
      rw [nI_1, am_set_set]
      refine kont _ ⟨_, rfl, fun p hp => ?_⟩
      rw [show p = 0 by omega, upd_eq]
      rfl
    · refine r_iload_3 rfl ?_
      refine r_push rfl ?_
      refine r_icgeF rfl (nI_lt hj (by decide)) ?_
      refine r_aload_0 rfl ?_
      refine r_getf rfl (ob _) (by rfl) ?_
      refine r_iload_3 rfl ?_
      refine r_iload_3 rfl ?_
      refine r_ifneT rfl (fun z => c (nI_inj (c := 0) (by omega) (by decide) z)) ?_
      refine r_push rfl ?_
      refine r_iast rfl (am_set_at) (rfl) (hj) (by first | decide | omega) ?_
      refine r_iinc_3 rfl ?_
      refine r_goto rfl ?_
      rw [nI_1, am_set_set]
      refine kont _ ⟨_, rfl, fun p hp => ?_⟩
      by_cases d : p = j
      · subst d; rw [upd_eq, cG_z, decide_eq_false c]; rfl
      · rw [upd_ne d]; exact hf p (by omega)
  obtain ⟨f, rfl, hf⟩ := hK
  refine r_iload_3 rfl ?_
  refine r_push rfl ?_
  refine r_icgeT rfl (by decide) ?_
  refine r_push rfl ?_
  refine r_istore_3 rfl ?_
  skip
  refine wp_forH N (fun k Ls h' => (∃ x4 x5, Ls = [.ref y, .int (nI S), .int (nI N), .int (nI k), x4, x5]) ∧ ∃ f, h' = am_set h (y + 7) (i24 f) ∧ ∀ p, inS p S → f p = bI (cG (Ws m) R k p)) (fun k Ls h' hk hK kont => ?_) (fun Ls h' hK => ?_) _ _ ⟨⟨am_un, am_un, rfl⟩, f, rfl, fun p hp => hf p (by have := inS_le hp; omega)⟩
  · obtain ⟨⟨x4, x5, rfl⟩, f, rfl, hf⟩ := hK
    clear of
    have hr := hR k hk
    have down : ∀ (c : Nat) (f : Nat → Int32) (x5 : Value), c ≤ S + 1 → (∀ p, inS p S → f p = bI (cG (Ws m) R (if p < c then k else k + 1) p)) → Wp G 2 mt_X6_canGive 40 [.ref y, .int (nI S), .int (nI N), .int (nI k), .int (nI c - 1), x5] [] (am_set h (y + 7) (i24 f)) (fun R' => ∃ r h', R' = .inl (some r, h') ∧ r = .int (bI (cG (Ws m) R N S)) ∧ ∃ f, h' = am_set h (y + 7) (i24 f)) := by
      intro c
      induction c with
      | zero =>
        intro f x5 hc hf
        refine r_iload_4 rfl ?_
        refine r_ifltT rfl (by decide) ?_
        refine r_iinc_3 rfl ?_
        refine r_goto rfl ?_
        rw [nI_1]
        exact kont _ _ ⟨⟨_, _, rfl⟩, f, rfl, fun p hp => by rw [hf p hp, if_neg (by omega)]⟩
      | succ s ih =>
        intro f x5 hc hf
        have e1 : nI (s + 1) - 1 = nI s := by rw [show (1 : Int32) = nI 1 from rfl, nI_sub (by omega)]; rfl
        rw [e1]
        by_cases d : inS s S
        · have hle2 := inS_le d
          have es := hf s d
          rw [if_pos (by omega)] at es
          have nxt : ∀ f' : Nat → Int32, f' s = bI (cG (Ws m) R (k + 1) s) → (∀ p, p ≠ s → f' p = f p) → ∀ p, inS p S → f' p = bI (cG (Ws m) R (if p < s then k else k + 1) p) := fun f' h1 h2 p hp => by
            by_cases c : p = s
            · subst c; rw [h1, if_neg (by omega)]
            · rw [h2 p c, hf p hp]
              by_cases e : p < s
              · rw [if_pos e, if_pos (by omega)]
              · rw [if_neg e, if_neg (by omega)]
          cases cs : cG (Ws m) R k s with
          | true =>
            rw [cs] at es
            refine r_iload_4 rfl ?_
            refine r_ifltF rfl (nI_le (a := 0) (by omega) (by omega)) ?_
            refine r_iload_4 rfl ?_
            refine r_iload_1 rfl ?_
            refine r_push rfl ?_
            refine r_ixor rfl ?_
            refine r_iand rfl ?_
            refine r_ifneF rfl ((sub_iff (by omega)).mpr d) ?_
            refine r_aload_0 rfl ?_
            refine r_getf rfl (ob _) (by rfl) ?_
            refine r_iload_4 rfl ?_
            refine r_iald rfl (am_set_at) (rfl) (show s < 1024 by omega) (by first | decide | omega) ?_
            refine r_push rfl ?_
            refine r_icneF rfl (es) ?_
            refine r_goto rfl ?_
            refine r_iinc_4 rfl ?_
            refine r_goto rfl ?_
            rw [add_m1]
            exact ih f _ (by omega) (nxt f (by rw [es, cG_s, cs]; rfl) (fun _ _ => rfl))
          | false =>
            rw [cs] at es
            have inner : ∀ (u p : Nat) (f' : Nat → Int32), p ≤ u → inS p s → f' s = 0 → (∀ p, p ≠ s → f' p = f p) → gLp (Ws m) (R k) (cG (Ws m) R k) s u p = cG (Ws m) R (k + 1) s → Wp G 2 mt_X6_canGive 72 [.ref y, .int (nI S), .int (nI N), .int (nI k), .int (nI s), .int (nI p)] [] (am_set h (y + 7) (i24 f')) (fun R' => ∃ r h', R' = .inl (some r, h') ∧ r = .int (bI (cG (Ws m) R N S)) ∧ ∃ f, h' = am_set h (y + 7) (i24 f)) := by
              intro u
              induction u with
              | zero =>
                intro p f' hp hi h0 h1 hm
                have : p = 0 := by omega
                subst this
                refine r_iload_5 rfl ?_
                refine r_ifleT rfl (by decide) ?_
                refine r_iinc_4 rfl ?_
                refine r_goto rfl ?_
                rw [add_m1]
                exact ih f' _ (by omega) (nxt f' (by rw [h0, ← hm]; rfl) h1)
              | succ u ihu =>
                intro p f' hp hi h0 h1 hm
                rw [gLp] at hm
                by_cases z : p = 0
                · rw [if_pos z] at hm
                  subst z
                  refine r_iload_5 rfl ?_
                  refine r_ifleT rfl (by decide) ?_
                  refine r_iinc_4 rfl ?_
                  refine r_goto rfl ?_
                  rw [add_m1]
                  exact ih f' _ (by omega) (nxt f' (by rw [h0, ← hm]; rfl) h1)
                · rw [if_neg z] at hm
                  have hx := xor_lt hi (by omega)
                  have hle := inS_le hi
                  have hlt : (p - 1) &&& s ≤ p - 1 := Nat.and_le_left
                  have ex := hf _ (inS_tr (inS_xor hi) d)
                  rw [if_pos (show s ^^^ p < s + 1 by omega), ← h1 _ (by omega)] at ex
                  have ew := (weightN_ok v (nI p)).1
                  have hw := (weightN_ok v (nI p)).2
                  have same : upd f' s 0 = f' := upd_id h0
                  by_cases A : Ws m p ≤ R k
                  · have hA : weightF m (nI p) ≤ fr k := by rw [ew, hr.1]; exact nI_le A (by omega)
                    cases B : cG (Ws m) R k (s ^^^ p) with
                    | true =>
                      rw [B, decide_eq_true A] at hm
                      rw [B] at ex
                      have fin : ∀ p, inS p S → upd f' s 1 p = bI (cG (Ws m) R (if p < s then k else k + 1) p) := nxt _ (by rw [upd_eq, ← hm]; rfl) (fun p hp => by rw [upd_ne hp]; exact h1 p hp)
                      by_cases P0 : (p - 1) &&& s = 0
                      · refine r_iload_5 rfl ?_
                        refine r_ifleF rfl (nI_lt (a := 0) (by omega) (by omega)) ?_
                        refine r_aload_0 rfl ?_
                        refine r_getf rfl (ob _) (by rfl) ?_
                        refine r_iload_4 rfl ?_
                        refine r_iald rfl (am_set_at) (rfl) (show s < 1024 by omega) (by first | decide | omega) ?_
                        refine r_ifneF rfl (h0) ?_
                        refine r_aload_0 rfl ?_
                        refine r_getf rfl (ob _) (by rfl) ?_
                        refine r_iload_4 rfl ?_
                        refine r_aload_0 rfl ?_
                        refine r_iload_5 rfl ?_
                        refine r_invvP_1 rfl (ob _) rfl rfl (by decide) (c_mweightOf (mm _) v _) ?_
                        refine r_aload_0 rfl ?_
                        refine r_getf rfl (ob _) (by rfl) ?_
                        refine r_iload_3 rfl ?_
                        refine r_iald rfl (orb _) (rfl) (show k < 6 by omega) (by first | decide | omega) ?_
                        refine r_icgtF rfl (hA) ?_
                        refine r_aload_0 rfl ?_
                        refine r_getf rfl (ob _) (by rfl) ?_
                        refine r_iload_4 rfl ?_
                        refine r_iload_5 rfl ?_
                        refine r_push rfl ?_
                        refine r_ixor rfl ?_
                        refine r_iand rfl ?_
                        refine r_iald rfl (am_set_at) (xor_I hi) (show s ^^^ p < 1024 by omega) (by first | decide | omega) ?_
                        refine r_goto rfl ?_
                        refine r_iast rfl (am_set_at) (rfl) (show s < 1024 by omega) (by first | decide | omega) ?_
                        refine r_iload_5 rfl ?_
                        refine r_push rfl ?_
                        refine r_isub rfl ?_
                        refine r_iload_4 rfl ?_
                        refine r_iand rfl ?_
                        refine r_istore_5 rfl ?_
                        refine r_goto rfl ?_
                        rw [next_I (by omega), P0, am_set_set, ex]
                        skip
                        refine r_iload_5 rfl ?_
                        refine r_ifleT rfl (by decide) ?_
                        refine r_iinc_4 rfl ?_
                        refine r_goto rfl ?_
                        rw [add_m1]
                        exact ih _ _ (by omega) fin
                      · refine r_iload_5 rfl ?_
                        refine r_ifleF rfl (nI_lt (a := 0) (by omega) (by omega)) ?_
                        refine r_aload_0 rfl ?_
                        refine r_getf rfl (ob _) (by rfl) ?_
                        refine r_iload_4 rfl ?_
                        refine r_iald rfl (am_set_at) (rfl) (show s < 1024 by omega) (by first | decide | omega) ?_
                        refine r_ifneF rfl (h0) ?_
                        refine r_aload_0 rfl ?_
                        refine r_getf rfl (ob _) (by rfl) ?_
                        refine r_iload_4 rfl ?_
                        refine r_aload_0 rfl ?_
                        refine r_iload_5 rfl ?_
                        refine r_invvP_1 rfl (ob _) rfl rfl (by decide) (c_mweightOf (mm _) v _) ?_
                        refine r_aload_0 rfl ?_
                        refine r_getf rfl (ob _) (by rfl) ?_
                        refine r_iload_3 rfl ?_
                        refine r_iald rfl (orb _) (rfl) (show k < 6 by omega) (by first | decide | omega) ?_
                        refine r_icgtF rfl (hA) ?_
                        refine r_aload_0 rfl ?_
                        refine r_getf rfl (ob _) (by rfl) ?_
                        refine r_iload_4 rfl ?_
                        refine r_iload_5 rfl ?_
                        refine r_push rfl ?_
                        refine r_ixor rfl ?_
                        refine r_iand rfl ?_
                        refine r_iald rfl (am_set_at) (xor_I hi) (show s ^^^ p < 1024 by omega) (by first | decide | omega) ?_
                        refine r_goto rfl ?_
                        refine r_iast rfl (am_set_at) (rfl) (show s < 1024 by omega) (by first | decide | omega) ?_
                        refine r_iload_5 rfl ?_
                        refine r_push rfl ?_
                        refine r_isub rfl ?_
                        refine r_iload_4 rfl ?_
                        refine r_iand rfl ?_
                        refine r_istore_5 rfl ?_
                        refine r_goto rfl ?_
                        rw [next_I (by omega), am_set_set, ex]
                        skip
                        refine r_iload_5 rfl ?_
                        refine r_ifleF rfl (nI_lt (a := 0) (by omega) (by omega)) ?_
                        refine r_aload_0 rfl ?_
                        refine r_getf rfl (ob _) (by rfl) ?_
                        refine r_iload_4 rfl ?_
                        refine r_iald rfl (am_set_at) (rfl) (show s < 1024 by omega) (by first | decide | omega) ?_
                        refine r_ifneT rfl (by rw [upd_eq]; decide) ?_
                        refine r_iinc_4 rfl ?_
                        refine r_goto rfl ?_
                        rw [add_m1]
                        exact ih _ _ (by omega) fin
                    | false =>
                      rw [B, Bool.and_false, Bool.false_or] at hm
                      rw [B] at ex
                      have again := ihu ((p - 1) &&& s) f' (by omega) inS_next h0 h1 hm
                      refine r_iload_5 rfl ?_
                      refine r_ifleF rfl (nI_lt (a := 0) (by omega) (by omega)) ?_
                      refine r_aload_0 rfl ?_
                      refine r_getf rfl (ob _) (by rfl) ?_
                      refine r_iload_4 rfl ?_
                      refine r_iald rfl (am_set_at) (rfl) (show s < 1024 by omega) (by first | decide | omega) ?_
                      refine r_ifneF rfl (h0) ?_
                      refine r_aload_0 rfl ?_
                      refine r_getf rfl (ob _) (by rfl) ?_
                      refine r_iload_4 rfl ?_
                      refine r_aload_0 rfl ?_
                      refine r_iload_5 rfl ?_
                      refine r_invvP_1 rfl (ob _) rfl rfl (by decide) (c_mweightOf (mm _) v _) ?_
                      refine r_aload_0 rfl ?_
                      refine r_getf rfl (ob _) (by rfl) ?_
                      refine r_iload_3 rfl ?_
                      refine r_iald rfl (orb _) (rfl) (show k < 6 by omega) (by first | decide | omega) ?_
                      refine r_icgtF rfl (hA) ?_
                      refine r_aload_0 rfl ?_
                      refine r_getf rfl (ob _) (by rfl) ?_
                      refine r_iload_4 rfl ?_
                      refine r_iload_5 rfl ?_
                      refine r_push rfl ?_
                      refine r_ixor rfl ?_
                      refine r_iand rfl ?_
                      refine r_iald rfl (am_set_at) (xor_I hi) (show s ^^^ p < 1024 by omega) (by first | decide | omega) ?_
                      refine r_goto rfl ?_
                      refine r_iast rfl (am_set_at) (rfl) (show s < 1024 by omega) (by first | decide | omega) ?_
                      refine r_iload_5 rfl ?_
                      refine r_push rfl ?_
                      refine r_isub rfl ?_
                      refine r_iload_4 rfl ?_
                      refine r_iand rfl ?_
                      refine r_istore_5 rfl ?_
                      refine r_goto rfl ?_
                      rw [next_I (by omega), am_set_set, ex, show upd f' s (bI false) = f' from same]
                      exact again
                  · have hA : fr k < weightF m (nI p) := by rw [ew, hr.1]; exact nI_lt (show R k < weightN m (nI p) from Nat.lt_of_not_le A) (by omega)
                    rw [decide_eq_false A, Bool.false_and, Bool.false_or] at hm
                    have again := ihu ((p - 1) &&& s) f' (by omega) inS_next h0 h1 hm
                    refine r_iload_5 rfl ?_
                    refine r_ifleF rfl (nI_lt (a := 0) (by omega) (by omega)) ?_
                    refine r_aload_0 rfl ?_
                    refine r_getf rfl (ob _) (by rfl) ?_
                    refine r_iload_4 rfl ?_
                    refine r_iald rfl (am_set_at) (rfl) (show s < 1024 by omega) (by first | decide | omega) ?_
                    refine r_ifneF rfl (h0) ?_
                    refine r_aload_0 rfl ?_
                    refine r_getf rfl (ob _) (by rfl) ?_
                    refine r_iload_4 rfl ?_
                    refine r_aload_0 rfl ?_
                    refine r_iload_5 rfl ?_
                    refine r_invvP_1 rfl (ob _) rfl rfl (by decide) (c_mweightOf (mm _) v _) ?_
                    refine r_aload_0 rfl ?_
                    refine r_getf rfl (ob _) (by rfl) ?_
                    refine r_iload_3 rfl ?_
                    refine r_iald rfl (orb _) (rfl) (show k < 6 by omega) (by first | decide | omega) ?_
                    refine r_icgtT rfl (hA) ?_
                    refine r_push rfl ?_
                    refine r_iast rfl (am_set_at) (rfl) (show s < 1024 by omega) (by first | decide | omega) ?_
                    refine r_iload_5 rfl ?_
                    refine r_push rfl ?_
                    refine r_isub rfl ?_
                    refine r_iload_4 rfl ?_
                    refine r_iand rfl ?_
                    refine r_istore_5 rfl ?_
                    refine r_goto rfl ?_
                    rw [next_I (by omega), am_set_set, same]
                    exact again
            refine r_iload_4 rfl ?_
            refine r_ifltF rfl (nI_le (a := 0) (by omega) (by omega)) ?_
            refine r_iload_4 rfl ?_
            refine r_iload_1 rfl ?_
            refine r_push rfl ?_
            refine r_ixor rfl ?_
            refine r_iand rfl ?_
            refine r_ifneF rfl ((sub_iff (by omega)).mpr d) ?_
            refine r_aload_0 rfl ?_
            refine r_getf rfl (ob _) (by rfl) ?_
            refine r_iload_4 rfl ?_
            refine r_iald rfl (am_set_at) (rfl) (show s < 1024 by omega) (by first | decide | omega) ?_
            refine r_push rfl ?_
            refine r_icneT rfl (by rw [es]; decide) ?_
            refine r_iload_4 rfl ?_
            refine r_istore_5 rfl ?_
            exact inner s s f (Nat.le_refl _) (Nat.and_self _) es (fun _ _ => rfl) (by rw [cG_s, cs]; rfl)
        · refine r_iload_4 rfl ?_
          refine r_ifltF rfl (nI_le (a := 0) (by omega) (by omega)) ?_
          refine r_iload_4 rfl ?_
          refine r_iload_1 rfl ?_
          refine r_push rfl ?_
          refine r_ixor rfl ?_
          refine r_iand rfl ?_
          refine r_ifneT rfl (fun z => d ((sub_iff (by omega)).mp z)) ?_
          refine r_iinc_4 rfl ?_
          refine r_goto rfl ?_
          rw [add_m1]
          refine ih f _ (by omega) (fun p hp => ?_)
          rw [hf p hp]
          have hne : p ≠ s := fun e => d (e ▸ hp)
          by_cases e : p < s
          · rw [if_pos e, if_pos (by omega)]
          · rw [if_neg e, if_neg (by omega)]
    refine r_iload_3 rfl ?_
    refine r_iload_2 rfl ?_
    refine r_icgeF rfl (nI_lt hk (by omega)) ?_
    refine r_iload_1 rfl ?_
    refine r_istore_4 rfl ?_
    have e1 : nI S = nI (S + 1) - 1 := by rw [show (1 : Int32) = nI 1 from rfl, nI_sub (by omega)]; rfl
    have dn := down (S + 1) f x5 (Nat.le_refl _) (fun p hp => by have := inS_le hp; rw [if_pos (by omega)]; exact hf p hp)
    rw [← e1] at dn
    exact dn
  · obtain ⟨⟨x4, x5, rfl⟩, f, rfl, hf⟩ := hK
    have e := hf S (Nat.and_self _)
    cases c : cG (Ws m) R N S with
    | true =>
      rw [c] at e
      refine r_iload_3 rfl ?_
      refine r_iload_2 rfl ?_
      refine r_icgeT rfl (Int32.le_refl _) ?_
      refine r_aload_0 rfl ?_
      refine r_getf rfl (ob _) (by rfl) ?_
      refine r_iload_1 rfl ?_
      refine r_iald rfl (am_set_at) (rfl) (hS) (by first | decide | omega) ?_
      refine r_push rfl ?_
      refine r_icneF rfl (e) ?_
      refine r_push rfl ?_
      refine r_goto rfl ?_
      refine r_zret rfl (by first | decide | assumption) ?_
      exact ⟨_, _, rfl, rfl, f, rfl⟩
    | false =>
      rw [c] at e
      refine r_iload_3 rfl ?_
      refine r_iload_2 rfl ?_
      refine r_icgeT rfl (Int32.le_refl _) ?_
      refine r_aload_0 rfl ?_
      refine r_getf rfl (ob _) (by rfl) ?_
      refine r_iload_1 rfl ?_
      refine r_iald rfl (am_set_at) (rfl) (hS) (by first | decide | omega) ?_
      refine r_push rfl ?_
      refine r_icneT rfl (by rw [e]; decide) ?_
      refine r_push rfl ?_
      refine r_zret rfl (by first | decide | assumption) ?_
      exact ⟨_, _, rfl, rfl, f, rfl⟩
theorem c_gives {S N t w : Nat} {f0 fr : Nat → Int32} (q : MM h y g m) (v : VR m) (of : h.1 (y + 7) = some (i24 f0)) (or : h.1 (y + 9) = some (.inl (0, 6, .inl fr))) (hS : S < 1024) (hN : N ≤ 6) (ht : t < N) (hw : w ≤ 400) (hR : ∀ k, k < N → fr k = nI (R k) ∧ R k ≤ 400) : Ev G 3 m_X6_gives [.ref y, .int (nI t), .int (nI w), .int (nI S), .int (nI N)] h (fun r h' => r = .int (bI (okT (Ws m) R N w S t)) ∧ ∃ f, h' = am_set (am_set h (y + 9) (.inl (0, 6, .inl (if okT (Ws m) R N w S t = true then upd fr t (nI (R t - w)) else fr)))) (y + 7) (i24 f)) := by
  have o := q.1
  have ht6 : t < 6 := by omega
  have hr := hR t ht
  refine wc_in mt_X6_gives rfl (L := [.ref y, .int (nI t), .int (nI w), .int (nI S), .int (nI N)]) rfl ?_
  by_cases d : w ≤ R t
  · have e3 : fr t - nI w = nI (R t - w) := by rw [hr.1, nI_sub d]
    have hR' : ∀ k, k < N → upd fr t (fr t - nI w) k = nI (updN R t (R t - w) k) ∧ updN R t (R t - w) k ≤ 400 := fun k hk => by
      by_cases c : k = t
      · subst c
        rw [upd_eq, updN_eq]
        exact ⟨e3, by omega⟩
      · rw [upd_ne c, updN_ne c]
        exact hR k hk
    have q1 : MM (am_set h (y + 9) (.inl (0, 6, .inl (upd fr t (fr t - nI w))))) y g m := ⟨am_set_k o (by omega), am_set_k q.2 (by omega)⟩
    have cc := c_ycan (G := G) q1 v (am_set_k of (by omega)) am_set_at hS hN hR'
    have eo : okT (Ws m) R N w S t = cG (Ws m) (updN R t (R t - w)) N S := by unfold okT; rw [decide_eq_true d, Bool.true_and]
    rw [eo]
    refine r_iload_2 rfl ?_
    refine r_aload_0 rfl ?_
    refine r_getf rfl (o) (by rfl) ?_
    refine r_iload_1 rfl ?_
    refine r_iald rfl (or) (rfl) (ht6) (by first | decide | omega) ?_
    refine r_icleT rfl (by rw [hr.1]; exact nI_le d (by omega)) ?_
    refine r_aload_0 rfl ?_
    refine r_getf rfl (o) (by rfl) ?_
    refine r_iload_1 rfl ?_
    refine r_dup2 rfl ?_
    refine r_iald rfl (or) (rfl) (ht6) (by first | decide | omega) ?_
    refine r_iload_2 rfl ?_
    refine r_isub rfl ?_
    refine r_iast rfl (or) (rfl) (ht6) (by first | decide | omega) ?_
    skip
    refine r_aload_0 rfl ?_
    refine r_iload_3 rfl ?_
    refine r_iload_4 rfl ?_
    refine r_invvE rfl rfl q1.1 rfl rfl (by decide) cc ?_
    rintro r h1 ⟨rfl, f, rfl⟩
    cases c : cG (Ws m) (updN R t (R t - w)) N S with
    | true =>
      refine r_ifeqF rfl (by decide) ?_
      refine r_push rfl ?_
      refine r_zret rfl (by first | decide | assumption) ?_
      exact ⟨_, _, rfl, rfl, f, by rw [if_pos rfl, e3]⟩
    | false =>
      have e2 : upd (upd fr t (fr t - nI w)) t (upd fr t (fr t - nI w) t + nI w) = fr := by
        rw [upd_eq, upd_upd, e3, nI_add, show R t - w + w = R t by omega, ← hr.1]
        exact upd_id rfl
      refine r_ifeqT rfl (rfl) ?_
      refine r_aload_0 rfl ?_
      refine r_getf rfl (am_set_k q1.1 (by omega)) (by rfl) ?_
      refine r_iload_1 rfl ?_
      refine r_dup2 rfl ?_
      refine r_iald rfl (am_set_k am_set_at (by omega)) (rfl) (ht6) (by first | decide | omega) ?_
      refine r_iload_2 rfl ?_
      refine r_iadd rfl ?_
      refine r_iast rfl (am_set_k am_set_at (by omega)) (rfl) (ht6) (by first | decide | omega) ?_
      refine r_push rfl ?_
      refine r_zret rfl (by first | decide | assumption) ?_
      exact ⟨_, _, rfl, rfl, f, by rw [if_neg (by decide), am_set_comm (a := y + 7) (c := y + 9) (by omega), am_set_set, e2]⟩
  · have eo : okT (Ws m) R N w S t = false := by unfold okT; rw [decide_eq_false d, Bool.false_and]
    rw [eo]
    refine r_iload_2 rfl ?_
    refine r_aload_0 rfl ?_
    refine r_getf rfl (o) (by rfl) ?_
    refine r_iload_1 rfl ?_
    refine r_iald rfl (or) (rfl) (ht6) (by first | decide | omega) ?_
    refine r_icleF rfl (by rw [hr.1]; exact nI_lt (by omega) (by omega)) ?_
    refine r_push rfl ?_
    refine r_zret rfl (by first | decide | assumption) ?_
    exact ⟨_, _, rfl, rfl, f0, by rw [if_neg (by decide), am_set_id or, am_set_id of]⟩
end
