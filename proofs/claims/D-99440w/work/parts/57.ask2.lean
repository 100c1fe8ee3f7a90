/-! WHAT IS ASKED: way, cross, soonest, meet on both sides -/
set_option maxRecDepth 100000
def k1 (a : Nat) : Nat → Nat := fun _ => a
def qWay (m : Nat → Int32) (p t : Int32) : Nat × Int32 := if inF p 0 (m 3 - 1) = false then (1, 0) else if inF t 0 11 = false then (1, 0) else (0, nonV (wayN m p.toNatClampNeg t.toNatClampNeg))
def qCross (m : Nat → Int32) (p : Int32) : Nat × Int32 := if inF p 0 (m 3 - 1) = false then (1, 0) else (0, bI (decide (loadF m p ≤ m 6)))
/-- the soonest of the first so many: who, how long -/
def soN (m : Nat → Int32) (t : Nat) : Nat → Option (Nat × Nat)
  | 0 => none
  | k + 1 => match (if bowF m k = true then none else wayN m k t) with
    | none => soN m t k
    | some n => match soN m t k with
      | none => some (k, n)
      | some (c, w) => if n < w then some (k, n) else some (c, w)
def whoV : Option (Nat × Nat) → Int32
  | none => -1
  | some (k, _) => nI k
def longV : Option (Nat × Nat) → Int32
  | none => 1000000
  | some (_, w) => nI w
def qSoon (m : Nat → Int32) (t : Int32) : Nat × Int32 := if inF t 0 11 = false then (1, 0) else (0, whoV (soN m t.toNatClampNeg (nP m)))
theorem soN_ok {m : Nat → Int32} {t : Nat} (v : VR m) (ht : t < 12) : ∀ k, k ≤ nP m → ∀ c w, soN m t k = some (c, w) → c < k ∧ wayN m c t = some w ∧ w ≤ 1331
  | 0, _, c, w, e => by cases e
  | k + 1, hk, c, w, e => by
    rw [soN] at e
    have ih := soN_ok v ht k (by omega)
    generalize hz : (if bowF m k = true then none else wayN m k t) = z at e
    cases z with
    | none =>
      obtain ⟨i1, i2⟩ := ih c w e
      exact ⟨by omega, i2⟩
    | some n =>
      have hn : wayN m k t = some n := by
        split at hz
        · cases hz
        · exact hz
      have hl := wayN_le v (by omega) ht hn
      cases hs : soN m t k with
      | none =>
        rw [hs] at e
        cases e
        exact ⟨by omega, hn, hl⟩
      | some cw =>
        obtain ⟨c', w'⟩ := cw
        rw [hs] at e
        obtain ⟨i1, i2⟩ := ih c' w' hs
        by_cases c2 : n < w'
        · simp only [if_pos c2, Option.some.injEq, Prod.mk.injEq] at e
          obtain ⟨rfl, rfl⟩ := e
          exact ⟨by omega, hn, hl⟩
        · simp only [if_neg c2, Option.some.injEq, Prod.mk.injEq] at e
          obtain ⟨rfl, rfl⟩ := e
          exact ⟨by omega, i2⟩
theorem nI_neg1 {a : Nat} (h : a < 2 ^ 31) : nI a ≠ -1 := fun e => by
  have z := congrArg Int32.toInt e
  rw [nI_toInt h] at z
  exact absurd z (by rw [show (-1 : Int32).toInt = -1 from rfl]; omega)
section
variable {G : am_G} {h : am_H} {x y : Nat} {hi : Bool} {m b g : Nat → Int32} {l : Value}
theorem c_xWay (o : h.1 x = some (.inr (0, xobj x hi))) (q : WA h (x + 1) m b l) (v : VR m) (yb : BY b m) (p t : Int32) : Qt G 4 m_X1_way [.ref x, .int p, .int t] h (qWay m p t) (k1 20) := by
  refine wc_in mt_X1_way rfl (L := [.ref x, .int p, .int t, am_un]) rfl ?_
  refine r_aload_0 rfl ?_
  refine r_iload_1 rfl ?_
  unfold qWay
  cases e1 : inF p 0 (m 3 - 1) with
  | false =>
    rw [if_pos rfl]
    refine r_invvX rfl rfl o rfl rfl rfl (by decide) (c_personAtF o q e1) ?_
    exact Or.inr ⟨_, _, rfl, by decide, rfl, rfl⟩
  | true =>
    rw [if_neg (by decide)]
    refine r_invvO rfl rfl o rfl rfl (by decide) (c_personAtT o q e1) ?_
    refine r_iload_2 rfl ?_
    cases e2 : inF t 0 11 with
    | false =>
      rw [if_pos rfl]
      refine r_invX rfl rfl rfl rfl (by decide) (c_placeAtF e2) ?_
      exact Or.inr ⟨_, _, rfl, by decide, rfl, rfl⟩
    | true =>
      rw [if_neg (by decide)]
      refine r_invO rfl rfl rfl (by decide) (c_placeAtT e2) ?_
      rw [v.pp.1] at e1
      obtain ⟨k, hk, rfl⟩ := inF_nI (by have := v.pp.2; omega) e1
      obtain ⟨j, hj, rfl⟩ := inF_nI (n := 12) (by decide) e2
      have hk6 : k < 6 := by have := v.pp.2; omega
      rw [nI_clamp (show k < 2 ^ 31 by omega), nI_clamp (show j < 2 ^ 31 by omega)]
      refine r_aload_0 rfl ?_
      refine r_iload_1 rfl ?_
      refine r_iload_2 rfl ?_
      refine r_invvP_2 rfl o rfl rfl (by decide) (c_xWayOf o q v yb hk hj) ?_
      have hl := fun w => wayN_le (w := w) v hk hj
      cases ew : wayN m k j with
      | none =>
        refine r_istore_3 rfl ?_
        refine r_iload_3 rfl ?_
        refine r_push rfl ?_
        refine r_icneF rfl (rfl) ?_
        refine r_push rfl ?_
        refine r_goto rfl ?_
        refine r_iret rfl ?_
        exact Or.inl ⟨_, _, rfl, rfl, rfl, rfl⟩
      | some w =>
        have := hl w ew
        refine r_istore_3 rfl ?_
        refine r_iload_3 rfl ?_
        refine r_push rfl ?_
        refine r_icneT rfl (fun z => absurd (nI_inj (a := w) (c := 1000000) (by omega) (by decide) z) (by omega)) ?_
        refine r_iload_3 rfl ?_
        refine r_iret rfl ?_
        exact Or.inl ⟨_, _, rfl, rfl, rfl, rfl⟩
theorem c_yWay (q : MM h y g m) (v : VR m) (p t : Int32) : Yc G 4 m_X6_way [.ref y, .int p, .int t] h y g (qWay m p t) := by
  have o := q.1
  have m1 := q.thr (nI 1); have m3 := q.thr (nI 0)
  have o1 := m1.1; have o3 := m3.1
  refine wc_in mt_X6_way rfl (L := [.ref y, .int p, .int t]) rfl ?_
  unfold qWay
  cases e1 : inF p 0 (m 3 - 1) with
  | false =>
    rw [if_pos rfl]
    refine r_aload_0 rfl ?_
    refine r_aload_0 rfl ?_
    refine r_iload_1 rfl ?_
    refine r_invvP_1 rfl (o) rfl rfl (by decide) (c_mIsPerson q p) ?_
    refine r_ifeqT rfl (by rw [e1]; rfl) ?_
    refine r_push rfl ?_
    refine r_goto rfl ?_
    refine r_puti rfl (o) rfl ?_
    rw [mo_0]
    refine r_aload_0 rfl ?_
    refine r_getf rfl (o1) (by rfl) ?_
    refine r_ifleF rfl (by rw [upd_eq]; decide) ?_
    refine r_push rfl ?_
    refine r_goto rfl ?_
    refine r_iret rfl ?_
    rfl
  | true =>
    rw [if_neg (by decide)]
    cases e2 : inF t 0 11 with
    | false =>
      rw [if_pos rfl]
      refine r_aload_0 rfl ?_
      refine r_aload_0 rfl ?_
      refine r_iload_1 rfl ?_
      refine r_invvP_1 rfl (o) rfl rfl (by decide) (c_mIsPerson q p) ?_
      refine r_ifeqF rfl (by rw [e1]; decide) ?_
      refine r_iload_2 rfl ?_
      refine r_invP_1 rfl rfl (by decide) (c_mIsPlace t) ?_
      refine r_ifneF rfl (by rw [e2]; rfl) ?_
      refine r_push rfl ?_
      refine r_goto rfl ?_
      refine r_puti rfl (o) rfl ?_
      rw [mo_0]
      refine r_aload_0 rfl ?_
      refine r_getf rfl (o1) (by rfl) ?_
      refine r_ifleF rfl (by rw [upd_eq]; decide) ?_
      refine r_push rfl ?_
      refine r_goto rfl ?_
      refine r_iret rfl ?_
      rfl
    | true =>
      rw [if_neg (by decide)]
      refine r_aload_0 rfl ?_
      refine r_aload_0 rfl ?_
      refine r_iload_1 rfl ?_
      refine r_invvP_1 rfl (o) rfl rfl (by decide) (c_mIsPerson q p) ?_
      refine r_ifeqF rfl (by rw [e1]; decide) ?_
      refine r_iload_2 rfl ?_
      refine r_invP_1 rfl rfl (by decide) (c_mIsPlace t) ?_
      refine r_ifneT rfl (by rw [e2]; decide) ?_
      refine r_push rfl ?_
      refine r_puti rfl (o) rfl ?_
      rw [mo_0]
      refine r_aload_0 rfl ?_
      refine r_getf rfl (o3) (by rfl) ?_
      refine r_ifleT rfl (by rw [upd_eq]; decide) ?_
      rw [v.pp.1] at e1
      obtain ⟨k, hk, rfl⟩ := inF_nI (by have := v.pp.2; omega) e1
      obtain ⟨j, hj, rfl⟩ := inF_nI (n := 12) (by decide) e2
      have hk6 : k < 6 := by have := v.pp.2; omega
      rw [nI_clamp (show k < 2 ^ 31 by omega), nI_clamp (show j < 2 ^ 31 by omega)]
      refine r_aload_0 rfl ?_
      refine r_iload_1 rfl ?_
      refine r_iload_2 rfl ?_
      refine r_invvP_2 rfl o3 rfl rfl (by decide) (c_yWayOf m3 v hk hj) ?_
      exact r_iret rfl rfl
theorem c_xCross (o : h.1 x = some (.inr (0, xobj x hi))) (q : WA h (x + 1) m b l) (v : VR m) (yb : BY b m) (p : Int32) : Qt G 4 m_X1_cross [.ref x, .int p] h (qCross m p) (k1 20) := by
  have o1 := wa_o q
  refine wc_in mt_X1_cross rfl (L := [.ref x, .int p]) rfl ?_
  refine r_aload_0 rfl ?_
  refine r_iload_1 rfl ?_
  unfold qCross
  cases e1 : inF p 0 (m 3 - 1) with
  | false =>
    rw [if_pos rfl]
    refine r_invvX rfl rfl o rfl rfl rfl (by decide) (c_personAtF o q e1) ?_
    exact Or.inr ⟨_, _, rfl, by decide, rfl, rfl⟩
  | true =>
    rw [if_neg (by decide)]
    refine r_invvO rfl rfl o rfl rfl (by decide) (c_personAtT o q e1) ?_
    refine r_aload_0 rfl ?_
    refine r_getf rfl (by assumption) (by rfl) ?_
    refine r_iload_1 rfl ?_
    refine r_invvP_1 rfl (by assumption) rfl rfl (by decide) (c_load q v yb _) ?_
    refine r_aload_0 rfl ?_
    refine r_getf rfl (by assumption) (by rfl) ?_
    refine r_getf rfl (by assumption) (by rfl) ?_
    refine r_icgt rfl (fun c_20 => ?_) (fun c_20 => ?_)
    · refine r_push rfl ?_
      refine r_zret rfl (by first | decide | assumption) ?_
      refine Or.inl ⟨_, _, rfl, rfl, ?_, rfl⟩
      first | (rw [decide_eq_true c_20]; rfl) | (rw [decide_eq_false (Int32.not_le.mpr c_20)]; rfl)
    · refine r_push rfl ?_
      refine r_goto rfl ?_
      refine r_zret rfl (by first | decide | assumption) ?_
      refine Or.inl ⟨_, _, rfl, rfl, ?_, rfl⟩
      first | (rw [decide_eq_true c_20]; rfl) | (rw [decide_eq_false (Int32.not_le.mpr c_20)]; rfl)
theorem c_yCross (q : MM h y g m) (v : VR m) (p : Int32) : Yc G 4 m_X6_cross [.ref y, .int p] h y g (qCross m p) := by
  have o := q.1
  have m1 := q.thr (nI 1); have m3 := q.thr (nI 0)
  have o1 := m1.1; have o3 := m3.1; have r3 := m3.2
  refine wc_in mt_X6_cross rfl (L := [.ref y, .int p]) rfl ?_
  unfold qCross
  cases e1 : inF p 0 (m 3 - 1) with
  | false =>
    rw [if_pos rfl]
    refine r_aload_0 rfl ?_
    refine r_aload_0 rfl ?_
    refine r_iload_1 rfl ?_
    refine r_invvP_1 rfl (o) rfl rfl (by decide) (c_mIsPerson q p) ?_
    refine r_ifneF rfl (by rw [e1]; rfl) ?_
    refine r_push rfl ?_
    refine r_goto rfl ?_
    refine r_puti rfl (o) rfl ?_
    rw [mo_0]
    refine r_aload_0 rfl ?_
    refine r_getf rfl (o1) (by rfl) ?_
    refine r_ifneT rfl (by rw [upd_eq]; decide) ?_
    refine r_push rfl ?_
    refine r_zret rfl (by first | decide | assumption) ?_
    rfl
  | true =>
    rw [if_neg (by decide)]
    refine r_aload_0 rfl ?_
    refine r_aload_0 rfl ?_
    refine r_iload_1 rfl ?_
    refine r_invvP_1 rfl (o) rfl rfl (by decide) (c_mIsPerson q p) ?_
    refine r_ifneT rfl (by rw [e1]; decide) ?_
    refine r_push rfl ?_
    refine r_puti rfl (o) rfl ?_
    rw [mo_0]
    refine r_aload_0 rfl ?_
    refine r_getf rfl (o3) (by rfl) ?_
    refine r_ifneF rfl (by rw [upd_eq]; decide) ?_
    refine r_aload_0 rfl ?_
    refine r_iload_1 rfl ?_
    refine r_invvP_1 rfl (o3) rfl rfl (by decide) (c_mload m3 v _) ?_
    refine r_aload_0 rfl ?_
    refine r_getf rfl (o3) (by rfl) ?_
    refine r_push rfl ?_
    refine r_iald rfl (r3) (show (6 : Int32) = nI 6 from rfl) (by first | assumption | omega) (by first | decide | omega) ?_
    refine r_icgt rfl (fun c_36 => ?_) (fun c_36 => ?_)
    · refine r_push rfl ?_
      refine r_zret rfl (by first | decide | assumption) ?_
      first | (rw [decide_eq_true c_36]; rfl) | (rw [decide_eq_false (Int32.not_le.mpr c_36)]; rfl)
    · refine r_push rfl ?_
      refine r_goto rfl ?_
      refine r_zret rfl (by first | decide | assumption) ?_
      first | (rw [decide_eq_true c_36]; rfl) | (rw [decide_eq_false (Int32.not_le.mpr c_36)]; rfl)
theorem c_xSoon (o : h.1 x = some (.inr (0, xobj x hi))) (q : WA h (x + 1) m b l) (v : VR m) (yb : BY b m) (t : Int32) : Qt G 4 m_X1_soonest [.ref x, .int t] h (qSoon m t) (k1 20) := by
  have o1 := wa_o q
  have hP := v.pp
  refine wc_in mt_X1_soonest rfl (L := [.ref x, .int t, am_un, am_un, am_un, am_un]) rfl ?_
  refine r_iload_1 rfl ?_
  unfold qSoon
  cases e2 : inF t 0 11 with
  | false =>
    rw [if_pos rfl]
    refine r_invX rfl rfl rfl rfl (by decide) (c_placeAtF e2) ?_
    exact Or.inr ⟨_, _, rfl, by decide, rfl, rfl⟩
  | true =>
    rw [if_neg (by decide)]
    refine r_invO rfl rfl rfl (by decide) (c_placeAtT e2) ?_
    obtain ⟨j, hj, rfl⟩ := inF_nI (n := 12) (by decide) e2
    rw [nI_clamp (show j < 2 ^ 31 by omega)]
    refine r_push rfl ?_
    refine r_istore_2 rfl ?_
    refine r_push rfl ?_
    refine r_istore_3 rfl ?_
    refine r_push rfl ?_
    refine r_istore_4 rfl ?_
    refine wp_forH (nP m) (fun k L h' => h' = h ∧ ∃ x5, L = [.ref x, .int (nI j), .int (whoV (soN m j k)), .int (longV (soN m j k)), .int (nI k), x5]) (fun k L h' hk hI kont => ?_) (fun L h' hI => ?_) _ _ ⟨rfl, am_un, rfl⟩
    · obtain ⟨rfl, x5, rfl⟩ := hI
      have kk : ∀ x5, Wp G 4 mt_X1_soonest 67 [.ref x, .int (nI j), .int (whoV (soN m j (k + 1))), .int (longV (soN m j (k + 1))), .int (nI k), x5] [] h' (fun R => (∃ v h1, R = .inl (some v, h1) ∧ QV h' (0, whoV (soN m j (nP m))) v h1) ∨ (∃ c h1, R = .inr (c, h1) ∧ QX h' (0, whoV (soN m j (nP m))) (k1 20) c h1)) := by
        intro x5
        refine r_iinc_4 rfl ?_
        refine r_goto rfl ?_
        rw [nI_1]
        exact kont _ _ ⟨rfl, x5, rfl⟩
      clear kont
      have ok := soN_ok v hj k (by omega)
      have hl := fun w => wayN_le (w := w) v hk hj
      have fin : ∀ z : Option Nat, z = (if bowF m k = true then none else wayN m k j) → Wp G 4 mt_X1_soonest 50 [.ref x, .int (nI j), .int (whoV (soN m j k)), .int (longV (soN m j k)), .int (nI k), x5] [.int (farV z)] h' (fun R => (∃ v h1, R = .inl (some v, h1) ∧ QV h' (0, whoV (soN m j (nP m))) v h1) ∨ (∃ c h1, R = .inr (c, h1) ∧ QX h' (0, whoV (soN m j (nP m))) (k1 20) c h1)) := by
        intro z hz
        rw [soN, ← hz] at kk
        refine r_istore_5 rfl ?_
        refine r_iload_5 rfl ?_
        refine r_iload_3 rfl ?_
        cases z with
        | none =>
          refine r_icltF rfl ?_ ?_
          · cases hs : soN m j k with
            | none => exact Int32.le_refl _
            | some cw =>
              obtain ⟨c, w⟩ := cw
              have := ok c w hs
              exact nI_le (a := w) (b := 1000000) (by omega) (by decide)
          · refine r_goto rfl ?_
            exact kk _
        | some n =>
          have hn : n ≤ 1331 := by
            split at hz
            · cases hz
            · exact hl n hz.symm
          cases hs : soN m j k with
          | none =>
            rw [hs] at kk
            refine r_icltT rfl (nI_lt (a := n) (b := 1000000) (by omega) (by decide)) ?_
            refine r_iload_4 rfl ?_
            refine r_istore_2 rfl ?_
            refine r_iload_5 rfl ?_
            refine r_istore_3 rfl ?_
            exact kk _
          | some cw =>
            obtain ⟨c, w⟩ := cw
            rw [hs] at kk
            have := ok c w hs
            by_cases c2 : n < w
            · simp only [if_pos c2] at kk
              refine r_icltT rfl (nI_lt c2 (by omega)) ?_
              refine r_iload_4 rfl ?_
              refine r_istore_2 rfl ?_
              refine r_iload_5 rfl ?_
              refine r_istore_3 rfl ?_
              exact kk _
            · simp only [if_neg c2] at kk
              refine r_icltF rfl (nI_le (a := w) (b := n) (by omega) (by omega)) ?_
              refine r_goto rfl ?_
              exact kk _
      refine r_iload_4 rfl ?_
      refine r_aload_0 rfl ?_
      refine r_getf rfl o rfl ?_
      refine r_getf rfl o1 rfl ?_
      rw [hP.1]
      refine r_icgeF rfl (nI_lt hk (by omega)) ?_
      refine r_aload_0 rfl ?_
      refine r_getf rfl o rfl ?_
      refine r_iload_4 rfl ?_
      refine r_invvP_1 rfl o1 rfl rfl (by decide) (c_isBowed q v yb hk) ?_
      cases eb : bowF m k with
      | true =>
        refine r_ifeqF rfl (by decide) ?_
        refine r_push rfl ?_
        refine r_goto rfl ?_
        exact fin none (by rw [eb, if_pos rfl])
      | false =>
        refine r_ifeqT rfl rfl ?_
        refine r_aload_0 rfl ?_
        refine r_iload_4 rfl ?_
        refine r_iload_1 rfl ?_
        refine r_invvP_2 rfl o rfl rfl (by decide) (c_xWayOf o q v yb hk hj) ?_
        exact fin _ (by rw [eb, if_neg (by decide)])
    · obtain ⟨rfl, x5, rfl⟩ := hI
      refine r_iload_4 rfl ?_
      refine r_aload_0 rfl ?_
      refine r_getf rfl o rfl ?_
      refine r_getf rfl o1 rfl ?_
      rw [hP.1]
      refine r_icgeT rfl (Int32.le_refl _) ?_
      refine r_iload_2 rfl ?_
      refine r_iret rfl ?_
      exact Or.inl ⟨_, _, rfl, rfl, rfl, rfl⟩
theorem c_ySoon (q : MM h y g m) (v : VR m) (t : Int32) : Yc G 4 m_X6_soonest [.ref y, .int t] h y g (qSoon m t) := by
  have o := q.1
  have m1 := q.thr (nI 1); have m3 := q.thr (nI 0)
  have o1 := m1.1; have o3 := m3.1; have r1 := m1.2; have r3 := m3.2
  have hP := v.pp
  refine wc_in mt_X6_soonest rfl (L := [.ref y, .int t, am_un, am_un, am_un]) rfl ?_
  unfold qSoon
  cases e2 : inF t 0 11 with
  | false =>
    rw [if_pos rfl]
    refine r_aload_0 rfl ?_
    refine r_iload_1 rfl ?_
    refine r_invP_1 rfl rfl (by decide) (c_mIsPlace t) ?_
    refine r_ifneF rfl (by rw [e2]; rfl) ?_
    refine r_push rfl ?_
    refine r_goto rfl ?_
    refine r_puti rfl (o) rfl ?_
    rw [mo_0]
    refine r_push rfl ?_
    refine r_istore_2 rfl ?_
    refine r_push rfl ?_
    refine r_istore_3 rfl ?_
    refine r_iload_3 rfl ?_
    refine r_aload_0 rfl ?_
    refine r_getf rfl (o1) (by rfl) ?_
    refine r_push rfl ?_
    refine r_iald rfl (r1) (show (3 : Int32) = nI 3 from rfl) (by first | assumption | omega) (by first | decide | omega) ?_
    refine r_icge rfl (fun c_27 => ?_) (fun c_27 => ?_)
    · refine r_aload_0 rfl ?_
      refine r_getf rfl (o1) (by rfl) ?_
      refine r_ifleF rfl (by rw [upd_eq]; decide) ?_
      refine r_push rfl ?_
      refine r_goto rfl ?_
      refine r_iret rfl ?_
      rfl
    · refine r_aload_0 rfl ?_
      refine r_getf rfl (o1) (by rfl) ?_
      refine r_ifneT rfl (by rw [upd_eq]; decide) ?_
      refine r_aload_0 rfl ?_
      refine r_getf rfl (o1) (by rfl) ?_
      refine r_ifleF rfl (by rw [upd_eq]; decide) ?_
      refine r_push rfl ?_
      refine r_goto rfl ?_
      refine r_iret rfl ?_
      rfl
  | true =>
    rw [if_neg (by decide)]
    obtain ⟨j, hj, rfl⟩ := inF_nI (n := 12) (by decide) e2
    rw [nI_clamp (show j < 2 ^ 31 by omega)]
    refine r_aload_0 rfl ?_
    refine r_iload_1 rfl ?_
    refine r_invP_1 rfl rfl (by decide) (c_mIsPlace _) ?_
    refine r_ifneT rfl (by rw [e2]; decide) ?_
    refine r_push rfl ?_
    refine r_puti rfl (o) rfl ?_
    rw [mo_0]
    refine r_push rfl ?_
    refine r_istore_2 rfl ?_
    refine r_push rfl ?_
    refine r_istore_3 rfl ?_
    refine wp_forH (nP m) (fun k L h' => h' = mh h y (upd g 0 (nI 0)) ∧ ∃ x4, L = [.ref y, .int (nI j), .int (whoV (soN m j k)), .int (nI k), x4]) (fun k L h' hk hI kont => ?_) (fun L h' hI => ?_) _ _ ⟨rfl, am_un, rfl⟩
    · obtain ⟨rfl, x4, rfl⟩ := hI
      have kk : ∀ x4, Wp G 4 mt_X6_soonest 81 [.ref y, .int (nI j), .int (whoV (soN m j (k + 1))), .int (nI k), x4] [] (mh h y (upd g 0 (nI 0))) (fun R => R = .inl (some (.int (whoV (soN m j (nP m)))), mh h y (upd g 0 (nI 0)))) := by
        intro x4
        refine r_iinc_3 rfl ?_
        refine r_goto rfl ?_
        rw [nI_1]
        exact kont _ _ ⟨rfl, x4, rfl⟩
      clear kont
      have ok := soN_ok v hj k (by omega)
      have hl := fun w => wayN_le (w := w) v hk hj
      have fin : ∀ z : Option Nat, z = (if bowF m k = true then none else wayN m k j) → Wp G 4 mt_X6_soonest 55 [.ref y, .int (nI j), .int (whoV (soN m j k)), .int (nI k), x4] [.int (nonV z)] (mh h y (upd g 0 (nI 0))) (fun R => R = .inl (some (.int (whoV (soN m j (nP m)))), mh h y (upd g 0 (nI 0)))) := by
        intro z hz
        rw [soN, ← hz] at kk
        refine r_istore_4 rfl ?_
        refine r_iload_4 rfl ?_
        refine r_push rfl ?_
        cases z with
        | none =>
          refine r_iceqT rfl rfl ?_
          exact kk _
        | some n =>
          have hn : n ≤ 1331 := by
            split at hz
            · cases hz
            · exact hl n hz.symm
          refine r_iceqF rfl (nI_neg1 (by omega)) ?_
          refine r_iload_2 rfl ?_
          refine r_push rfl ?_
          cases hs : soN m j k with
          | none =>
            rw [hs] at kk
            refine r_iceqT rfl rfl ?_
            refine r_iload_3 rfl ?_
            refine r_istore_2 rfl ?_
            exact kk _
          | some cw =>
            obtain ⟨c, w⟩ := cw
            rw [hs] at kk
            obtain ⟨i1, i2, i3⟩ := ok c w hs
            refine r_iceqF rfl (nI_neg1 (a := c) (by omega)) ?_
            refine r_iload_4 rfl ?_
            refine r_aload_0 rfl ?_
            refine r_iload_2 rfl ?_
            refine r_iload_1 rfl ?_
            refine r_invvP_2 rfl o3 rfl rfl (by decide) (c_yWayOf m3 v (p := c) (by omega) hj) ?_
            rw [i2]
            by_cases c2 : n < w
            · simp only [if_pos c2] at kk
              refine r_icgeF rfl (nI_lt c2 (by omega)) ?_
              refine r_iload_3 rfl ?_
              refine r_istore_2 rfl ?_
              exact kk _
            · simp only [if_neg c2] at kk
              refine r_icgeT rfl (nI_le (a := w) (b := n) (by omega) (by omega)) ?_
              exact kk _
      refine r_iload_3 rfl ?_
      refine r_aload_0 rfl ?_
      refine r_getf rfl o3 rfl ?_
      refine r_push rfl ?_
      refine r_iald rfl r3 (show (3 : Int32) = nI 3 from rfl) (by decide) (by decide) ?_
      rw [hP.1]
      refine r_icgeF rfl (nI_lt hk (by omega)) ?_
      refine r_aload_0 rfl ?_
      refine r_getf rfl o3 rfl ?_
      refine r_ifneF rfl upd_eq ?_
      refine r_aload_0 rfl ?_
      refine r_iload_3 rfl ?_
      refine r_invvP_1 rfl o3 rfl rfl (by decide) (c_misBowed m3 v hk) ?_
      cases eb : bowF m k with
      | true =>
        refine r_ifeqF rfl (by decide) ?_
        refine r_push rfl ?_
        refine r_goto rfl ?_
        exact fin none (by rw [eb, if_pos rfl])
      | false =>
        refine r_ifeqT rfl rfl ?_
        refine r_aload_0 rfl ?_
        refine r_iload_3 rfl ?_
        refine r_iload_1 rfl ?_
        refine r_invvP_2 rfl o3 rfl rfl (by decide) (c_yWayOf m3 v hk hj) ?_
        exact fin _ (by rw [eb, if_neg (by decide)])
    · obtain ⟨rfl, x4, rfl⟩ := hI
      refine r_iload_3 rfl ?_
      refine r_aload_0 rfl ?_
      refine r_getf rfl (o3) (by rfl) ?_
      refine r_push rfl ?_
      refine r_iald rfl (r3) (show (3 : Int32) = nI 3 from rfl) (by first | assumption | omega) (by first | decide | omega) ?_
      refine r_icgeT rfl (by rw [hP.1]; exact Int32.le_refl _) ?_
      refine r_aload_0 rfl ?_
      refine r_getf rfl (o3) (by rfl) ?_
      refine r_ifleT rfl (by rw [upd_eq]; decide) ?_
      refine r_iload_2 rfl ?_
      refine r_iret rfl ?_
      rfl
end
