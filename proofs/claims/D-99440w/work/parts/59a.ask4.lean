/-! WHAT IS ASKED: led, meet on both sides -/
set_option maxRecDepth 100000
theorem down1 {n j : Nat} (h : j < n) : nI (n - j) - 1 = nI (n - 1 - j) := by
  rw [show (1 : Int32) = nI 1 from rfl, nI_sub (by omega)]
  congr 1
  omega
theorem down2 {n j : Nat} (h : j < n) : nI (n - j) - 1 + -1 = nI (n - (j + 1)) - 1 := by
  rw [down1 h]
  by_cases c : n - 1 - j = 0
  · rw [c, show n - (j + 1) = 0 by omega]; rfl
  · rw [dec1 (by omega) rfl, show (1 : Int32) = nI 1 from rfl, nI_sub (by omega)]
    congr 1
    omega
/-- hours of the first so many to a place -/
def wsN (m : Nat → Int32) (t : Nat) : Nat → Option Nat
  | 0 => some 0
  | k + 1 => match wsN m t k with
    | none => none
    | some s => match wayN m k t with
      | none => none
      | some w => some (s + w)
theorem wsN_le {m : Nat → Int32} {t : Nat} (v : VR m) (ht : t < 12) : ∀ k s, k ≤ nP m → wsN m t k = some s → s ≤ 1331 * k
  | 0, s, _, e => by cases e; omega
  | k + 1, s, hk, e => by
    rw [wsN] at e
    cases e1 : wsN m t k with
    | none => rw [e1] at e; cases e
    | some s1 =>
      rw [e1] at e
      cases e2 : wayN m k t with
      | none => rw [e2] at e; cases e
      | some w =>
        rw [e2] at e
        cases e
        have := wsN_le v ht k s1 (by omega) e1
        have := wayN_le v (by omega) ht e2
        omega
theorem wsN_no {m : Nat → Int32} {t k : Nat} (e : wayN m k t = none) : ∀ n, k < n → wsN m t n = none
  | 0, h => absurd h (Nat.not_lt_zero _)
  | n + 1, h => by
    rw [wsN]
    by_cases c : k = n
    · subst c
      rw [e]
      cases wsN m t k <;> rfl
    · rw [wsN_no e n (by omega)]
/-- where to meet, of the first so many places -/
def meN (m : Nat → Int32) : Nat → Option (Nat × Nat)
  | 0 => none
  | k + 1 => match wsN m k (nP m) with
    | none => meN m k
    | some n => match meN m k with
      | none => some (k, n)
      | some (c, w) => if n < w then some (k, n) else some (c, w)
theorem meN_ok {m : Nat → Int32} (v : VR m) : ∀ k, k ≤ 12 → ∀ c w, meN m k = some (c, w) → c < k ∧ wsN m c (nP m) = some w ∧ w ≤ 7986
  | 0, _, c, w, e => by cases e
  | k + 1, hk, c, w, e => by
    rw [meN] at e
    have ih := meN_ok v k (by omega)
    cases hz : wsN m k (nP m) with
    | none =>
      rw [hz] at e
      obtain ⟨i1, i2⟩ := ih c w e
      exact ⟨by omega, i2⟩
    | some n =>
      rw [hz] at e
      have hl := wsN_le v (by omega) _ n (Nat.le_refl _) hz
      have := v.pp.2
      have hl2 : n ≤ 7986 := by omega
      cases hs : meN m k with
      | none =>
        rw [hs] at e
        cases e
        exact ⟨by omega, hz, hl2⟩
      | some cw =>
        obtain ⟨c', w'⟩ := cw
        rw [hs] at e
        obtain ⟨i1, i2⟩ := ih c' w' hs
        by_cases c2 : n < w'
        · simp only [if_pos c2, Option.some.injEq, Prod.mk.injEq] at e
          obtain ⟨rfl, rfl⟩ := e
          exact ⟨by omega, hz, hl2⟩
        · simp only [if_neg c2, Option.some.injEq, Prod.mk.injEq] at e
          obtain ⟨rfl, rfl⟩ := e
          exact ⟨by omega, i2⟩
def meetF (m : Nat → Int32) : Int32 := if nP m = 0 then -1 else whoV (meN m 12)
section
variable {G : am_G} {h : am_H} {x y : Nat} {hi : Bool} {m b g : Nat → Int32} {l : Value}
theorem c_xLed (o : h.1 x = some (.inr (0, xobj x hi))) (q : WA h (x + 1) m b l) (v : VR m) (z hr : Int32) : Qt G 4 m_X1_led [.ref x, .int z, .int hr] h (qLed m z hr) (k1 20) := by
  have o1 := wa_o q
  have hL := v.lo
  refine wc_in mt_X1_led rfl (L := [.ref x, .int z, .int hr, am_un, am_un, am_un]) rfl ?_
  refine r_aload_0 rfl ?_
  refine r_iload_1 rfl ?_
  unfold qLed
  cases e1 : inF z 0 (m 4 - 1) with
  | false =>
    rw [if_pos rfl]
    refine r_invvX rfl rfl o rfl rfl rfl (by decide) (c_stoneAtF o q e1) ?_
    exact Or.inr ⟨_, _, rfl, by decide, rfl, rfl⟩
  | true =>
    rw [if_neg (by decide)]
    refine r_invvO rfl rfl o rfl rfl (by decide) (c_stoneAtT o q e1) ?_
    refine r_push rfl ?_
    refine r_istore_3 rfl ?_
    refine r_push rfl ?_
    refine r_istore_4 rfl ?_
    refine r_aload_0 rfl ?_
    refine r_getf rfl o rfl ?_
    refine r_getf rfl o1 rfl ?_
    rw [hL.1]
    refine r_push rfl ?_
    refine r_isub rfl ?_
    refine r_istore_5 rfl ?_
    refine wp_for (nL m) (fun j => [.ref x, .int z, .int hr, .int (ldN m z (nL m) j).1, .int (ldN m z (nL m) j).2, .int (nI (nL m - j) - 1)]) (fun j hj kont => ?_) ?_
    · rw [ldN] at kont
      rw [down1 hj]
      refine r_iload_5 rfl ?_
      refine r_ifltF rfl (nI_pos' (by omega)) ?_
      refine r_aload_0 rfl ?_
      refine r_iload_5 rfl ?_
      refine r_push rfl ?_
      refine r_invvP_2 rfl o rfl rfl (by decide) (c_xOfLog (w := 1) o q (by omega) (by decide)) ?_
      refine r_iload_1 rfl ?_
      refine r_iceq rfl (fun c => ?_) (fun c => ?_)
      · rw [if_pos c] at kont
        refine r_iinc_3 rfl ?_
        refine r_aload_0 rfl ?_
        refine r_iload_5 rfl ?_
        refine r_push rfl ?_
        refine r_invvP_2 rfl o rfl rfl (by decide) (c_xOfLog (w := 0) o q (by omega) (by decide)) ?_
        refine r_istore_4 rfl ?_
        refine r_iinc_5 rfl ?_
        refine r_goto rfl ?_
        rw [← down1 hj, down2 hj]
        exact kont
      · rw [if_neg c] at kont
        refine r_goto rfl ?_
        refine r_iinc_5 rfl ?_
        refine r_goto rfl ?_
        rw [← down1 hj, down2 hj]
        exact kont
    · rw [Nat.sub_self]
      refine r_iload_5 rfl ?_
      refine r_ifltT rfl (by decide) ?_
      refine r_iload_2 rfl ?_
      refine r_ifeq rfl (fun c_59 => ?_) (fun c_59 => ?_)
      · refine r_iload_3 rfl ?_
        refine r_iret rfl ?_
        refine Or.inl ⟨_, _, rfl, rfl, ?_, rfl⟩
        first | rw [if_pos c_59] | rw [if_neg c_59]
      · refine r_iload_4 rfl ?_
        refine r_goto rfl ?_
        refine r_iret rfl ?_
        refine Or.inl ⟨_, _, rfl, rfl, ?_, rfl⟩
        first | rw [if_pos c_59] | rw [if_neg c_59]
theorem c_yLed (q : MM h y g m) (v : VR m) (z hr : Int32) : Yc G 4 m_X6_led [.ref y, .int z, .int hr] h y g (qLed m z hr) := by
  have hL := v.lo
  have o := q.1
  have m1 := q.thr (nI 1); have m3 := q.thr (nI 0)
  have o1 := m1.1; have o3 := m3.1; have r3 := m3.2
  refine wc_in mt_X6_led rfl (L := [.ref y, .int z, .int hr, am_un, am_un, am_un]) rfl ?_
  unfold qLed
  cases e1 : inF z 0 (m 4 - 1) with
  | false =>
    rw [if_pos rfl]
    refine r_aload_0 rfl ?_
    refine r_aload_0 rfl ?_
    refine r_iload_1 rfl ?_
    refine r_invvP_1 rfl (o) rfl rfl (by decide) (c_mIsStone q z) ?_
    refine r_ifneF rfl (by rw [e1]; rfl) ?_
    refine r_push rfl ?_
    refine r_goto rfl ?_
    refine r_puti rfl (o) rfl ?_
    rw [mo_0]
    refine r_aload_0 rfl ?_
    refine r_getf rfl (o1) (by rfl) ?_
    refine r_ifleF rfl (by rw [upd_eq]; decide) ?_
    refine r_push rfl ?_
    refine r_iret rfl ?_
    rfl
  | true =>
    rw [if_neg (by decide)]
    refine r_aload_0 rfl ?_
    refine r_aload_0 rfl ?_
    refine r_iload_1 rfl ?_
    refine r_invvP_1 rfl (o) rfl rfl (by decide) (c_mIsStone q z) ?_
    refine r_ifneT rfl (by rw [e1]; decide) ?_
    refine r_push rfl ?_
    refine r_puti rfl (o) rfl ?_
    rw [mo_0]
    refine r_aload_0 rfl ?_
    refine r_getf rfl (o3) (by rfl) ?_
    refine r_ifleT rfl (by rw [upd_eq]; decide) ?_
    refine r_push rfl ?_
    refine r_istore_3 rfl ?_
    refine r_push rfl ?_
    refine r_istore_4 rfl ?_
    refine r_aload_0 rfl ?_
    refine r_getf rfl (o3) (by rfl) ?_
    refine r_push rfl ?_
    refine r_iald rfl (r3) (show (7 : Int32) = nI 7 from rfl) (by first | assumption | omega) (by first | decide | omega) ?_
    rw [hL.1]
    refine r_push rfl ?_
    refine r_isub rfl ?_
    refine r_istore_5 rfl ?_
    refine wp_for (nL m) (fun j => [.ref y, .int z, .int hr, .int (ldN m z (nL m) j).1, .int (ldN m z (nL m) j).2, .int (nI (nL m - j) - 1)]) (fun j hj kont => ?_) ?_
    · rw [ldN] at kont
      rw [down1 hj]
      refine r_iload_5 rfl ?_
      refine r_ifltF rfl (nI_pos' (by omega)) ?_
      refine r_aload_0 rfl ?_
      refine r_iload_5 rfl ?_
      refine r_push rfl ?_
      refine r_invvP_2 rfl o3 rfl rfl (by decide) (c_yLogged (w := 1) m3 (by omega) (by decide)) ?_
      refine r_iload_1 rfl ?_
      refine r_iceq rfl (fun c => ?_) (fun c => ?_)
      · rw [if_pos c] at kont
        refine r_iinc_3 rfl ?_
        refine r_aload_0 rfl ?_
        refine r_iload_5 rfl ?_
        refine r_push rfl ?_
        refine r_invvP_2 rfl o3 rfl rfl (by decide) (c_yLogged (w := 0) m3 (by omega) (by decide)) ?_
        refine r_istore_4 rfl ?_
        refine r_iinc_5 rfl ?_
        refine r_goto rfl ?_
        rw [← down1 hj, down2 hj]
        exact kont
      · rw [if_neg c] at kont
        refine r_goto rfl ?_
        refine r_iinc_5 rfl ?_
        refine r_goto rfl ?_
        rw [← down1 hj, down2 hj]
        exact kont
    · rw [Nat.sub_self]
      refine r_iload_5 rfl ?_
      refine r_ifltT rfl (by decide) ?_
      refine r_iload_2 rfl ?_
      refine r_ifeq rfl (fun c_80 => ?_) (fun c_80 => ?_)
      · refine r_iload_3 rfl ?_
        refine r_iret rfl ?_
        first | (rw [if_pos c_80]; rfl) | (rw [if_neg c_80]; rfl)
      · refine r_iload_4 rfl ?_
        refine r_goto rfl ?_
        refine r_iret rfl ?_
        first | (rw [if_pos c_80]; rfl) | (rw [if_neg c_80]; rfl)
theorem c_xMeet (o : h.1 x = some (.inr (0, xobj x hi))) (q : WA h (x + 1) m b l) (v : VR m) (yb : BY b m) : Vc G 4 m_X1_meet [.ref x] h (.int (meetF m)) := by
  have o1 := wa_o q
  have hP := v.pp
  unfold meetF
  refine wc_in mt_X1_meet rfl (L := [.ref x, am_un, am_un, am_un, am_un, am_un]) rfl ?_
  refine r_push rfl ?_
  refine r_istore_1 rfl ?_
  refine r_push rfl ?_
  refine r_istore_2 rfl ?_
  refine r_push rfl ?_
  refine r_istore_3 rfl ?_
  by_cases p0 : nP m = 0
  · rw [if_pos p0]
    refine r_iload_3 rfl ?_
    refine r_push rfl ?_
    refine r_icgeF rfl (by decide) ?_
    refine r_aload_0 rfl ?_
    refine r_getf rfl (by assumption) (by rfl) ?_
    refine r_getf rfl (by assumption) (by rfl) ?_
    refine r_ifleT rfl (by rw [hP.1, p0]; decide) ?_
    refine r_iload_1 rfl ?_
    refine r_iret rfl ?_
    rfl
  · rw [if_neg p0]
    have pp : 0 < m 3 := by rw [hP.1]; exact nI_lt (a := 0) (by omega) (by omega)
    refine wp_forH 12 (fun k L h' => h' = h ∧ ∃ x4 x5, L = [.ref x, .int (whoV (meN m k)), .int (longV (meN m k)), .int (nI k), x4, x5]) (fun k L h' hk hI kont => ?_) (fun L h' hI => ?_) _ _ ⟨rfl, am_un, am_un, rfl⟩
    · obtain ⟨rfl, x4, x5, rfl⟩ := hI
      rw [meN] at kont
      have ok := meN_ok v k (by omega)
      have hl := wsN_le v hk
      refine r_iload_3 rfl ?_
      refine r_push rfl ?_
      refine r_icgeF rfl (nI_lt hk (by decide)) ?_
      refine r_aload_0 rfl ?_
      refine r_getf rfl (by assumption) (by rfl) ?_
      refine r_getf rfl (by assumption) (by rfl) ?_
      refine r_ifleF rfl (pp) ?_
      refine r_push rfl ?_
      refine r_istore_4 rfl ?_
      refine r_push rfl ?_
      refine r_istore_5 rfl ?_
      refine wp_for (nP m) (fun i => [.ref x, .int (whoV (meN m k)), .int (longV (meN m k)), .int (nI k), .int (farV (wsN m k i)), .int (nI i)]) (fun i hi k2 => ?_) ?_
      · rw [wsN] at k2
        have hs := hl i
        have hw := fun w => wayN_le (w := w) v hi hk
        refine r_iload_5 rfl ?_
        refine r_aload_0 rfl ?_
        refine r_getf rfl o rfl ?_
        refine r_getf rfl o1 rfl ?_
        rw [hP.1]
        refine r_icgeF rfl (nI_lt hi (by omega)) ?_
        refine r_push rfl ?_
        refine r_iload_4 rfl ?_
        refine r_aload_0 rfl ?_
        refine r_iload_5 rfl ?_
        refine r_iload_3 rfl ?_
        refine r_invvP_2 rfl o rfl rfl (by decide) (c_xWayOf o q v yb hi hk) ?_
        refine r_iadd rfl ?_
        refine r_invP_2 rfl rfl (by decide) (c_min _ _) ?_
        have e : minF 1000000 (farV (wsN m k i) + farV (wayN m i k)) = farV (match wsN m k i with | none => none | some s => match wayN m i k with | none => none | some w => some (s + w)) := by
          cases e1 : wsN m k i with
          | none =>
            cases e2 : wayN m i k with
            | none => decide
            | some w =>
              have := hw w e2
              show minF (nI 1000000) (nI 1000000 + nI w) = nI 1000000
              rw [nI_add, minF_nI (by decide) (by omega), Nat.min_eq_left (by omega)]
          | some s =>
            have := hs s (by omega) e1
            cases e2 : wayN m i k with
            | none =>
              show minF (nI 1000000) (nI s + nI 1000000) = nI 1000000
              rw [nI_add, minF_nI (by decide) (by omega), Nat.min_eq_left (by omega)]
            | some w =>
              have := hw w e2
              show minF (nI 1000000) (nI s + nI w) = nI (s + w)
              rw [nI_add, minF_nI (by decide) (by omega), Nat.min_eq_right (by omega)]
        rw [e]
        refine r_istore_4 rfl ?_
        refine r_iinc_5 rfl ?_
        refine r_goto rfl ?_
        rw [nI_1]
        exact k2
      · have kk : ∀ x4 x5, Wp G 4 mt_X1_meet 80 [.ref x, .int (whoV (match wsN m k (nP m) with | none => meN m k | some n => match meN m k with | none => some (k, n) | some (c, w) => if n < w then some (k, n) else some (c, w))), .int (longV (match wsN m k (nP m) with | none => meN m k | some n => match meN m k with | none => some (k, n) | some (c, w) => if n < w then some (k, n) else some (c, w))), .int (nI k), x4, x5] [] h' (fun R => R = .inl (some (.int (whoV (meN m 12))), h')) := by
          intro x4 x5
          refine r_iinc_3 rfl ?_
          refine r_goto rfl ?_
          rw [nI_1]
          exact kont _ _ ⟨rfl, x4, x5, rfl⟩
        clear kont
        refine r_iload_5 rfl ?_
        refine r_aload_0 rfl ?_
        refine r_getf rfl o rfl ?_
        refine r_getf rfl o1 rfl ?_
        rw [hP.1]
        refine r_icgeT rfl (Int32.le_refl _) ?_
        refine r_iload_4 rfl ?_
        refine r_iload_2 rfl ?_
        cases hz : wsN m k (nP m) with
        | none =>
          rw [hz] at kk
          refine r_icltF rfl ?_ ?_
          · cases hs : meN m k with
            | none => exact Int32.le_refl _
            | some cw =>
              obtain ⟨c, w⟩ := cw
              have := ok c w hs
              exact nI_le (a := w) (b := 1000000) (by omega) (by decide)
          · refine r_goto rfl ?_
            exact kk _ _
        | some n =>
          have hn := hl _ n (Nat.le_refl _) hz
          rw [hz] at kk
          cases hs : meN m k with
          | none =>
            rw [hs] at kk
            refine r_icltT rfl (nI_lt (a := n) (b := 1000000) (by omega) (by decide)) ?_
            refine r_iload_3 rfl ?_
            refine r_istore_1 rfl ?_
            refine r_iload_4 rfl ?_
            refine r_istore_2 rfl ?_
            exact kk _ _
          | some cw =>
            obtain ⟨c, w⟩ := cw
            rw [hs] at kk
            have := ok c w hs
            by_cases c2 : n < w
            · simp only [if_pos c2] at kk
              refine r_icltT rfl (nI_lt c2 (by omega)) ?_
              refine r_iload_3 rfl ?_
              refine r_istore_1 rfl ?_
              refine r_iload_4 rfl ?_
              refine r_istore_2 rfl ?_
              exact kk _ _
            · simp only [if_neg c2] at kk
              refine r_icltF rfl (nI_le (a := w) (b := n) (by omega) (by omega)) ?_
              refine r_goto rfl ?_
              exact kk _ _
    · obtain ⟨rfl, x4, x5, rfl⟩ := hI
      refine r_iload_3 rfl ?_
      refine r_push rfl ?_
      refine r_icgeT rfl (by decide) ?_
      refine r_iload_1 rfl ?_
      refine r_iret rfl ?_
      rfl
theorem c_yWaysTo (q : MM h y g m) (v : VR m) {t : Nat} (ht : t < 12) : Vc G 4 m_X6_waysTo [.ref y, .int (nI t)] h (.int (nonV (wsN m t (nP m)))) := by
  have hP := v.pp
  have o := q.1; have o1 := q.2
  refine wc_in mt_X6_waysTo rfl (L := [.ref y, .int (nI t), am_un, am_un]) rfl ?_
  refine r_push rfl ?_
  refine r_istore_2 rfl ?_
  refine r_push rfl ?_
  refine r_istore_3 rfl ?_
  refine wp_forK (nP m) (fun i => [.ref y, .int (nI t), .int (nonV (wsN m t i)), .int (nI i)]) (fun i => wsN m t i ≠ none) (by intro z; cases z) (fun i hi hK k2 => ?_) (fun hK => ?_)
  · refine r_iload_3 rfl ?_
    refine r_aload_0 rfl ?_
    refine r_getf rfl o rfl ?_
    refine r_push rfl ?_
    refine r_iald rfl o1 (show (3 : Int32) = nI 3 from rfl) (by decide) (by decide) ?_
    rw [hP.1]
    refine r_icgeF rfl (nI_lt hi (by omega)) ?_
    refine r_aload_0 rfl ?_
    refine r_iload_3 rfl ?_
    refine r_iload_1 rfl ?_
    refine r_invvP_2 rfl o rfl rfl (by decide) (c_yWayOf q v hi ht) ?_
    refine r_push rfl ?_
    cases e2 : wayN m i t with
    | none =>
      refine r_icneF rfl rfl ?_
      refine r_push rfl ?_
      refine r_iret rfl ?_
      rw [wsN_no e2 (nP m) hi]
      rfl
    | some w =>
      have := wayN_le v hi ht e2
      refine r_icneT rfl (nI_neg1 (a := w) (by omega)) ?_
      refine r_iload_2 rfl ?_
      refine r_aload_0 rfl ?_
      refine r_iload_3 rfl ?_
      refine r_iload_1 rfl ?_
      refine r_invvP_2 rfl o rfl rfl (by decide) (c_yWayOf q v hi ht) ?_
      refine r_iadd rfl ?_
      refine r_istore_2 rfl ?_
      refine r_iinc_3 rfl ?_
      refine r_goto rfl ?_
      rw [nI_1]
      cases e1 : wsN m t i with
      | none => exact absurd e1 hK
      | some s =>
        have e3 : wsN m t (i + 1) = some (s + w) := by rw [wsN, e1, e2]
        rw [e3] at k2
        rw [e2, show nonV (some s) + nonV (some w) = nonV (some (s + w)) from nI_add _ _]
        exact k2 (by intro z; cases z)
  · refine r_iload_3 rfl ?_
    refine r_aload_0 rfl ?_
    refine r_getf rfl (by assumption) (by rfl) ?_
    refine r_push rfl ?_
    refine r_iald rfl (o1) (show (3 : Int32) = nI 3 from rfl) (by first | assumption | omega) (by first | decide | omega) ?_
    refine r_icgeT rfl (by rw [hP.1]; exact Int32.le_refl _) ?_
    refine r_iload_2 rfl ?_
    refine r_iret rfl ?_
    rfl
theorem c_yMeet (q : MM h y g m) (v : VR m) : Yc G 5 m_X6_meet [.ref y] h y g (0, meetF m) := by
  have hP := v.pp
  have m3 := q.thr (nI 0)
  have o := q.1; have o3 := m3.1; have r3 := m3.2
  unfold meetF
  refine wc_in mt_X6_meet rfl (L := [.ref y, am_un, am_un]) rfl ?_
  refine r_aload_0 rfl ?_
  refine r_push rfl ?_
  refine r_puti rfl o rfl ?_
  rw [mo_0]
  refine r_push rfl ?_
  refine r_istore_1 rfl ?_
  refine r_push rfl ?_
  refine r_istore_2 rfl ?_
  by_cases p0 : nP m = 0
  · rw [if_pos p0]
    refine r_iload_2 rfl ?_
    refine r_push rfl ?_
    refine r_icgeF rfl (by decide) ?_
    refine r_aload_0 rfl ?_
    refine r_getf rfl (o3) (by rfl) ?_
    refine r_push rfl ?_
    refine r_iald rfl (r3) (show (3 : Int32) = nI 3 from rfl) (by first | assumption | omega) (by first | decide | omega) ?_
    refine r_ifleT rfl (by rw [hP.1, p0]; decide) ?_
    refine r_iload_1 rfl ?_
    refine r_iret rfl ?_
    rfl
  · rw [if_neg p0]
    have pp : 0 < m 3 := by rw [hP.1]; exact nI_lt (a := 0) (by omega) (by omega)
    refine wp_for 12 (fun k => [.ref y, .int (whoV (meN m k)), .int (nI k)]) (fun k hk kont => ?_) ?_
    · rw [meN] at kont
      have ok := meN_ok v k (by omega)
      have hl := wsN_le v hk
      refine r_iload_2 rfl ?_
      refine r_push rfl ?_
      refine r_icgeF rfl (nI_lt hk (by decide)) ?_
      refine r_aload_0 rfl ?_
      refine r_getf rfl (o3) (by rfl) ?_
      refine r_push rfl ?_
      refine r_iald rfl (r3) (show (3 : Int32) = nI 3 from rfl) (by first | assumption | omega) (by first | decide | omega) ?_
      refine r_ifleF rfl (pp) ?_
      refine r_aload_0 rfl ?_
      refine r_iload_2 rfl ?_
      refine r_invvP_1 rfl o3 rfl rfl (by decide) (c_yWaysTo m3 v hk) ?_
      refine r_push rfl ?_
      cases hz : wsN m k (nP m) with
      | none =>
        rw [hz] at kont
        refine r_iceqT rfl rfl ?_
        refine r_iinc_2 rfl ?_
        refine r_goto rfl ?_
        rw [nI_1]
        exact kont
      | some n =>
        have hn := hl _ n (Nat.le_refl _) hz
        rw [hz] at kont
        refine r_iceqF rfl (nI_neg1 (a := n) (by omega)) ?_
        refine r_iload_1 rfl ?_
        refine r_push rfl ?_
        cases hs : meN m k with
        | none =>
          rw [hs] at kont
          refine r_iceqT rfl rfl ?_
          refine r_iload_2 rfl ?_
          refine r_istore_1 rfl ?_
          refine r_iinc_2 rfl ?_
          refine r_goto rfl ?_
          rw [nI_1]
          exact kont
        | some cw =>
          obtain ⟨c, w⟩ := cw
          rw [hs] at kont
          obtain ⟨i1, i2, i3⟩ := ok c w hs
          refine r_iceqF rfl (nI_neg1 (a := c) (by omega)) ?_
          refine r_aload_0 rfl ?_
          refine r_iload_2 rfl ?_
          refine r_invvP_1 rfl o3 rfl rfl (by decide) (c_yWaysTo m3 v hk) ?_
          refine r_aload_0 rfl ?_
          refine r_iload_1 rfl ?_
          refine r_invvP_1 rfl o3 rfl rfl (by decide) (c_yWaysTo m3 v (t := c) (by omega)) ?_
          rw [hz, i2]
          by_cases c2 : n < w
          · simp only [if_pos c2] at kont
            refine r_icgeF rfl (nI_lt c2 (by omega)) ?_
            refine r_iload_2 rfl ?_
            refine r_istore_1 rfl ?_
            refine r_iinc_2 rfl ?_
            refine r_goto rfl ?_
            rw [nI_1]
            exact kont
          · simp only [if_neg c2] at kont
            refine r_icgeT rfl (nI_le (a := w) (b := n) (by omega) (by omega)) ?_
            refine r_iinc_2 rfl ?_
            refine r_goto rfl ?_
            rw [nI_1]
            exact kont
    · refine r_iload_2 rfl ?_
      refine r_push rfl ?_
      refine r_icgeT rfl (by decide) ?_
      refine r_iload_1 rfl ?_
      refine r_iret rfl ?_
      rfl
end
