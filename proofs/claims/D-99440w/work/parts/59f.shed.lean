/-! WHAT IS ASKED: shed on both sides -/
set_option maxRecDepth 100000
/-- the least set of the fewest: upward, downward -/
def ascM (V : Nat → Bool) (f : Nat → Int32) : Nat → Option Nat
  | 0 => none
  | s + 1 => match ascM V f s with
    | none => if V s = true then some s else none
    | some c => if V s = true ∧ f s < f c then some s else some c
def dscM (V : Nat → Bool) (f : Nat → Int32) (a : Nat) : Nat → Nat
  | 0 => a
  | j + 1 => if V (a - 1 - j) = true ∧ f (a - 1 - j) ≤ f (dscM V f a j) then a - 1 - j else dscM V f a j
def BF (f : Nat → Int32) (c s : Nat) : Prop := f c ≤ f s ∧ (f c = f s → c ≤ s)
theorem BF.tr {f : Nat → Int32} {a c s : Nat} (x : BF f a c) (y : BF f c s) : BF f a s := by
  refine ⟨Int32.le_trans x.1 y.1, fun e => ?_⟩
  have e1 : f a = f c := Int32.le_antisymm x.1 (by rw [e]; exact y.1)
  exact Nat.le_trans (x.2 e1) (y.2 (e1.symm.trans e))
theorem BF.rf {f : Nat → Int32} {a : Nat} : BF f a a := ⟨Int32.le_refl _, fun _ => Nat.le_refl _⟩
theorem ascM_ok {V : Nat → Bool} {f : Nat → Int32} : ∀ n, (ascM V f n = none → ∀ s, s < n → ¬ V s = true) ∧ ∀ c, ascM V f n = some c → V c = true ∧ c < n ∧ ∀ s, s < n → V s = true → BF f c s
  | 0 => ⟨fun _ s h => absurd h (Nat.not_lt_zero _), fun c e => by cases e⟩
  | n + 1 => by
    obtain ⟨h1, h2⟩ := ascM_ok (V := V) (f := f) n
    cases e : ascM V f n with
    | none =>
      have h1 := h1 e
      rw [ascM, e]
      by_cases z : V n = true
      · simp only [if_pos z]
        refine ⟨fun q => (by cases q), fun c q => ?_⟩
        cases q
        refine ⟨z, Nat.lt_succ_self _, fun s hs vs => ?_⟩
        by_cases w : s = n
        · rw [w]; exact BF.rf
        · exact absurd vs (h1 s (by omega))
      · simp only [if_neg z]
        refine ⟨fun _ s hs vs => ?_, fun c q => by cases q⟩
        by_cases w : s = n
        · rw [w] at vs; exact z vs
        · exact absurd vs (h1 s (by omega))
    | some d =>
      obtain ⟨d1, d2, d3⟩ := h2 d e
      rw [ascM, e]
      by_cases z : V n = true ∧ f n < f d
      · simp only [if_pos z]
        refine ⟨fun q => (by cases q), fun c q => ?_⟩
        cases q
        refine ⟨z.1, Nat.lt_succ_self _, fun s hs vs => ?_⟩
        by_cases w : s = n
        · rw [w]; exact BF.rf
        · have q := d3 s (by omega) vs
          have l := Int32.lt_of_lt_of_le z.2 q.1
          exact ⟨Int32.le_of_lt l, fun y => absurd l (by rw [y]; exact fun w => Int32.lt_irrefl w)⟩
      · simp only [if_neg z]
        refine ⟨fun q => (by cases q), fun c q => ?_⟩
        cases q
        refine ⟨d1, by omega, fun s hs vs => ?_⟩
        by_cases w : s = n
        · subst w
          have l : f d ≤ f s := Int32.not_lt.mp (fun y => z ⟨vs, y⟩)
          exact ⟨l, fun _ => by omega⟩
        · exact d3 s (by omega) vs
theorem dscM_ok {V : Nat → Bool} {f : Nat → Int32} {a : Nat} (va : V a = true) : ∀ j, j ≤ a → V (dscM V f a j) = true ∧ a - j ≤ dscM V f a j ∧ dscM V f a j ≤ a ∧ ∀ s, a - j ≤ s → s ≤ a → V s = true → BF f (dscM V f a j) s
  | 0, _ => ⟨va, by show a - 0 ≤ a; omega, Nat.le_refl _, fun s h1 h2 _ => by rw [show s = a by omega]; exact BF.rf⟩
  | j + 1, h => by
    obtain ⟨h1, h2, h3, h4⟩ := dscM_ok (f := f) va j (by omega)
    rw [dscM]
    generalize dscM V f a j = d at *
    by_cases z : V (a - 1 - j) = true ∧ f (a - 1 - j) ≤ f d
    · rw [if_pos z]
      refine ⟨z.1, by omega, by omega, fun s s1 s2 vs => ?_⟩
      by_cases w : s = a - 1 - j
      · rw [w]; exact BF.rf
      · have q := h4 s (by omega) s2 vs
        exact ⟨Int32.le_trans z.2 q.1, fun _ => by omega⟩
    · rw [if_neg z]
      refine ⟨h1, by omega, h3, fun s s1 s2 vs => ?_⟩
      by_cases w : s = a - 1 - j
      · subst w
        have l : f d < f (a - 1 - j) := Int32.not_le.mp (fun y => z ⟨vs, y⟩)
        exact ⟨Int32.le_of_lt l, fun y => absurd l (by rw [y]; exact fun w => Int32.lt_irrefl w)⟩
      · exact h4 s (by omega) s2 vs
theorem asc_dsc {V : Nat → Bool} {f : Nat → Int32} {a n : Nat} (va : V a = true) (ha : a < n) (hv : ∀ s, s < n → V s = true → s ≤ a) : ascM V f n = some (dscM V f a a) := by
  obtain ⟨h1, h2⟩ := ascM_ok (V := V) (f := f) n
  obtain ⟨d1, d2, d3, d4⟩ := dscM_ok (f := f) va a (Nat.le_refl _)
  cases e : ascM V f n with
  | none => exact absurd va (h1 e a ha)
  | some c =>
    obtain ⟨c1, c2, c3⟩ := h2 c e
    have x := c3 _ (by omega) d1
    have y := d4 c (by omega) (hv c c2 c1) c1
    have e1 : f c = f (dscM V f a a) := Int32.le_antisymm x.1 y.1
    have := x.2 e1
    have := y.2 e1.symm
    rw [show c = dscM V f a a by omega]
/-- members of a set, counted -/
def bitsF (x : Int32) : Int32 := smF (fun k => (x >>> (nI k &&& 31)) &&& 1) 31
def bc1 (x : Int32) : Int32 := x - ((x.toUInt32 >>> ((1 : Int32).toUInt32 &&& Int32.toUInt32 31)).toInt32 &&& 1431655765)
def bc2 (x : Int32) : Int32 := (x &&& 858993459) + ((x.toUInt32 >>> ((2 : Int32).toUInt32 &&& Int32.toUInt32 31)).toInt32 &&& 858993459)
def bc3 (x : Int32) : Int32 := (x + (x.toUInt32 >>> ((4 : Int32).toUInt32 &&& Int32.toUInt32 31)).toInt32) &&& 252645135
def bc4 (x : Int32) : Int32 := x + (x.toUInt32 >>> ((8 : Int32).toUInt32 &&& Int32.toUInt32 31)).toInt32
def bc5 (x : Int32) : Int32 := (x + (x.toUInt32 >>> ((16 : Int32).toUInt32 &&& Int32.toUInt32 31)).toInt32) &&& 63
theorem bc_eq : ∀ s, s < 1024 → bc5 (bc4 (bc3 (bc2 (bc1 (nI s))))) = bitsF (nI s) := by decide +kernel
/-- limits that can be -/
def LB (m : Nat → Int32) : Prop := 0 ≤ m 6 ∧ ∀ p, p < nP m → 0 ≤ m (34 + 6 * p)
def shV (m : Nat → Int32) (p : Nat) (s : Nat) : Bool := decide (nI s &&& (wornF m (nI p) ^^^ (-1)) = 0) && decide (weightF m (wornF m (nI p) &&& (nI s ^^^ (-1))) ≤ minF (m 6) (m (34 + 6 * p)))
def shB (m : Nat → Int32) (p : Nat) : Int32 := oneV (ascM (shV m p) (fun s => bitsF (nI s)) (2 ^ nS m))
def qShed (m : Nat → Int32) (p : Int32) : Nat × Int32 := if inF p 0 (m 3 - 1) = false then (1, 0) else (0, shB m p.toNatClampNeg)
section
variable {G : am_G} {h : am_H} {x y : Nat} {hi : Bool} {m b g : Nat → Int32} {l : Value}
theorem c_bitCount {s : Nat} (hs : s < 1024) : Vc G 0 m_J16_bitCount [.int (nI s)] h (.int (bitsF (nI s))) := by
  rw [← bc_eq s hs]
  generalize nI s = z
  refine wc_in mt_J16_bitCount rfl (L := [.int z]) rfl ?_
  refine r_iload_0 rfl ?_
  refine r_iload_0 rfl ?_
  refine r_push rfl ?_
  refine r_iushr rfl ?_
  refine r_push rfl ?_
  refine r_iand rfl ?_
  refine r_isub rfl ?_
  refine r_istore_0 rfl ?_
  refine r_iload_0 rfl ?_
  refine r_push rfl ?_
  refine r_iand rfl ?_
  refine r_iload_0 rfl ?_
  refine r_push rfl ?_
  refine r_iushr rfl ?_
  refine r_push rfl ?_
  refine r_iand rfl ?_
  refine r_iadd rfl ?_
  refine r_istore_0 rfl ?_
  refine r_iload_0 rfl ?_
  refine r_iload_0 rfl ?_
  refine r_push rfl ?_
  refine r_iushr rfl ?_
  refine r_iadd rfl ?_
  refine r_push rfl ?_
  refine r_iand rfl ?_
  refine r_istore_0 rfl ?_
  refine r_iload_0 rfl ?_
  refine r_iload_0 rfl ?_
  refine r_push rfl ?_
  refine r_iushr rfl ?_
  refine r_iadd rfl ?_
  refine r_istore_0 rfl ?_
  refine r_iload_0 rfl ?_
  refine r_iload_0 rfl ?_
  refine r_push rfl ?_
  refine r_iushr rfl ?_
  refine r_iadd rfl ?_
  refine r_istore_0 rfl ?_
  refine r_iload_0 rfl ?_
  refine r_push rfl ?_
  refine r_iand rfl ?_
  refine r_iret rfl ?_
  rfl
theorem c_mbits (z : Int32) : Vc G 0 m_X6_bits [.int z] h (.int (bitsF z)) := by
  refine wc_in mt_X6_bits rfl (L := [.int z, am_un, am_un]) rfl ?_
  refine r_push rfl ?_
  refine r_istore_1 rfl ?_
  refine r_push rfl ?_
  refine r_istore_2 rfl ?_
  refine wp_for 31 (fun j => [.int z, .int (smF (fun k => (z >>> (nI k &&& 31)) &&& 1) j), .int (nI j)]) (fun j hj kont => ?_) ?_
  · rw [smF] at kont
    refine r_iload_2 rfl ?_
    refine r_push rfl ?_
    refine r_icgeF rfl (nI_lt hj (by decide)) ?_
    refine r_iload_1 rfl ?_
    refine r_iload_0 rfl ?_
    refine r_iload_2 rfl ?_
    refine r_ishr rfl ?_
    refine r_push rfl ?_
    refine r_iand rfl ?_
    refine r_iadd rfl ?_
    refine r_istore_1 rfl ?_
    refine r_iinc_2 rfl ?_
    refine r_goto rfl ?_
    rw [nI_1]
    exact kont
  · refine r_iload_2 rfl ?_
    refine r_push rfl ?_
    refine r_icgeT rfl (by decide) ?_
    refine r_iload_1 rfl ?_
    refine r_iret rfl ?_
    rfl
theorem c_xShed (o : h.1 x = some (.inr (0, xobj x hi))) (q : WA h (x + 1) m b l) (v : VR m) (yb : BY b m) (lb : LB m) (p : Int32) : Qt G 4 m_X1_shed [.ref x, .int p] h (qShed m p) (k1 20) := by
  have o1 := wa_o q; have a1 := wa_ba q
  refine wc_in mt_X1_shed rfl (L := [.ref x, .int p, am_un, am_un, am_un, am_un]) rfl ?_
  refine r_aload_0 rfl ?_
  refine r_iload_1 rfl ?_
  unfold qShed
  cases e1 : inF p 0 (m 3 - 1) with
  | false =>
    rw [if_pos rfl]
    refine r_invvX rfl rfl o rfl rfl rfl (by decide) (c_personAtF o q e1) ?_
    exact Or.inr ⟨_, _, rfl, by decide, rfl, rfl⟩
  | true =>
    rw [if_neg (by decide)]
    refine r_invvO rfl rfl o rfl rfl (by decide) (c_personAtT o q e1) ?_
    rw [v.pp.1] at e1
    obtain ⟨k, hk, rfl⟩ := inF_nI (by have := v.pp.2; omega) e1
    have hk6 : k < 6 := by have := v.pp.2; omega
    rw [nI_clamp (show k < 2 ^ 31 by omega)]
    have h10 := v.ss.2
    have eo : wornF m (nI k) = nI (bsN (fun s => decide (m (72 + 6 * s) = 0) && decide (m (73 + 6 * s) = nI k)) (nS m)) := bsF_N (by omega)
    have lo : bsN (fun s => decide (m (72 + 6 * s) = 0) && decide (m (73 + 6 * s) = nI k)) (nS m) < 2 ^ nS m := bsN_lt
    have l10 := pow10 h10
    have hm : 0 ≤ minF (m 6) (m (34 + 6 * k)) := by
      unfold minF
      split
      · exact lb.1
      · exact lb.2 k hk
    have va : shV m k (bsN (fun s => decide (m (72 + 6 * s) = 0) && decide (m (73 + 6 * s) = nI k)) (nS m)) = true := by
      unfold shV
      rw [eo]
      generalize bsN (fun s => decide (m (72 + 6 * s) = 0) && decide (m (73 + 6 * s) = nI k)) (nS m) = a at *
      have e0 : nI a &&& (nI a ^^^ (-1)) = 0 := (sub_iff (by omega)).mpr (Nat.and_self a)
      rw [e0, decide_eq_true rfl, Bool.true_and]
      refine decide_eq_true ?_
      have w0 : weightF m 0 = 0 := by
        unfold weightF
        have : ∀ n, smF (fun s => if isF 0 (nI s) = true then m (71 + 6 * s) else 0) n = 0 ∨ 10 < n := by
          intro n
          induction n with
          | zero => exact Or.inl rfl
          | succ n ih =>
            by_cases z : 10 < n + 1
            · exact Or.inr z
            · rw [smF, isF_tb _ (by omega), tb_0, if_neg (by decide), ih.resolve_right (by omega)]
              exact Or.inl rfl
        exact (this (nS m)).resolve_right (by omega)
      rw [w0]
      exact hm
    have eb : shB m k = nI (dscM (shV m k) (fun s => bitsF (nI s)) (bsN (fun s => decide (m (72 + 6 * s) = 0) && decide (m (73 + 6 * s) = nI k)) (nS m)) (bsN (fun s => decide (m (72 + 6 * s) = 0) && decide (m (73 + 6 * s) = nI k)) (nS m))) := by
      unfold shB
      rw [asc_dsc va lo (fun s hs vs => by
        unfold shV at vs
        rw [Bool.and_eq_true, decide_eq_true_iff, decide_eq_true_iff, eo] at vs
        exact sub_le (by omega) vs.1)]
      rfl
    rw [eb]
    clear eb
    have sv : ∀ s, shV m k s = (decide (nI s &&& (wornF m (nI k) ^^^ (-1)) = 0) && decide (weightF m (wornF m (nI k) &&& (nI s ^^^ (-1))) ≤ minF (m 6) (m (34 + 6 * k)))) := fun _ => rfl
    refine r_aload_0 rfl ?_
    refine r_getf rfl o rfl ?_
    refine r_iload_1 rfl ?_
    refine r_invvP_1 rfl o1 rfl rfl (by decide) (c_wornBy q v yb _) ?_
    rw [eo] at sv ⊢
    generalize bsN (fun s => decide (m (72 + 6 * s) = 0) && decide (m (73 + 6 * s) = nI k)) (nS m) = a at *
    clear eo
    refine r_istore_2 rfl ?_
    refine r_aload_0 rfl ?_
    refine r_getf rfl o rfl ?_
    refine r_getf rfl o1 rfl ?_
    refine r_aload_0 rfl ?_
    refine r_getf rfl o rfl ?_
    refine r_getf rfl o1 rfl ?_
    refine r_iload_1 rfl ?_
    refine r_iald rfl a1 rfl hk6 (by decide) ?_
    rw [cl_in hk6]
    refine r_invP_2 rfl rfl (by decide) (c_min _ _) ?_
    generalize minF (m 6) (m (34 + 6 * k)) = most at *
    generalize hV : shV m k = V at *
    refine r_istore_3 rfl ?_
    refine r_iload_2 rfl ?_
    refine r_istore_4 rfl ?_
    refine r_iload_2 rfl ?_
    refine r_push rfl ?_
    refine r_isub rfl ?_
    refine r_istore_5 rfl ?_
    have ok := dscM_ok (f := fun s => bitsF (nI s)) va
    refine wp_for a (fun j => [.ref x, .int (nI k), .int (nI a), .int most, .int (nI (dscM V (fun s => bitsF (nI s)) a j)), .int (nI (a - j) - 1)]) (fun j hj kont => ?_) ?_
    · have okj := ok j (by omega)
      rw [dscM] at kont
      rw [down1 hj]
      have svj := sv (a - 1 - j)
      generalize dscM V (fun s => bitsF (nI s)) a j = d at *
      have ed : nI (a - 1 - j) + -1 = nI (a - (j + 1)) - 1 := by rw [← down1 hj, down2 hj]
      by_cases A : nI (a - 1 - j) &&& (nI a ^^^ (-1)) = 0
      · by_cases B : bitsF (nI (a - 1 - j)) ≤ bitsF (nI d)
        · by_cases C : weightF m (nI a &&& (nI (a - 1 - j) ^^^ (-1))) ≤ most
          · rw [decide_eq_true A, decide_eq_true C, Bool.and_self] at svj
            rw [if_pos ⟨svj, B⟩] at kont
            refine r_iload_5 rfl ?_
            refine r_ifltF rfl (nI_pos' (by omega)) ?_
            refine r_iload_5 rfl ?_
            refine r_iload_2 rfl ?_
            refine r_push rfl ?_
            refine r_ixor rfl ?_
            refine r_iand rfl ?_
            refine r_ifneF rfl (A) ?_
            refine r_iload_5 rfl ?_
            refine r_invP_1 rfl rfl (by decide) (c_bitCount (by omega)) ?_
            refine r_iload_4 rfl ?_
            refine r_invP_1 rfl rfl (by decide) (c_bitCount (by omega)) ?_
            refine r_icgtF rfl (B) ?_
            refine r_aload_0 rfl ?_
            refine r_getf rfl (by assumption) (by rfl) ?_
            refine r_iload_2 rfl ?_
            refine r_iload_5 rfl ?_
            refine r_push rfl ?_
            refine r_ixor rfl ?_
            refine r_iand rfl ?_
            refine r_invvP_1 rfl (by assumption) rfl rfl (by decide) (c_weightOf q v _) ?_
            refine r_iload_3 rfl ?_
            refine r_icgtF rfl (C) ?_
            refine r_iload_5 rfl ?_
            refine r_goto rfl ?_
            refine r_istore_4 rfl ?_
            refine r_iinc_5 rfl ?_
            refine r_goto rfl ?_
            rw [ed]
            exact kont
          · rw [decide_eq_false C, Bool.and_false] at svj
            rw [if_neg (fun z => by rw [svj] at z; cases z.1)] at kont
            refine r_iload_5 rfl ?_
            refine r_ifltF rfl (nI_pos' (by omega)) ?_
            refine r_iload_5 rfl ?_
            refine r_iload_2 rfl ?_
            refine r_push rfl ?_
            refine r_ixor rfl ?_
            refine r_iand rfl ?_
            refine r_ifneF rfl (A) ?_
            refine r_iload_5 rfl ?_
            refine r_invP_1 rfl rfl (by decide) (c_bitCount (by omega)) ?_
            refine r_iload_4 rfl ?_
            refine r_invP_1 rfl rfl (by decide) (c_bitCount (by omega)) ?_
            refine r_icgtF rfl (B) ?_
            refine r_aload_0 rfl ?_
            refine r_getf rfl (by assumption) (by rfl) ?_
            refine r_iload_2 rfl ?_
            refine r_iload_5 rfl ?_
            refine r_push rfl ?_
            refine r_ixor rfl ?_
            refine r_iand rfl ?_
            refine r_invvP_1 rfl (by assumption) rfl rfl (by decide) (c_weightOf q v _) ?_
            refine r_iload_3 rfl ?_
            refine r_icgtT rfl (Int32.not_le.mp C) ?_
            refine r_iload_4 rfl ?_
            refine r_istore_4 rfl ?_
            refine r_iinc_5 rfl ?_
            refine r_goto rfl ?_
            rw [ed]
            exact kont
        · rw [if_neg (fun z => B z.2)] at kont
          refine r_iload_5 rfl ?_
          refine r_ifltF rfl (nI_pos' (by omega)) ?_
          refine r_iload_5 rfl ?_
          refine r_iload_2 rfl ?_
          refine r_push rfl ?_
          refine r_ixor rfl ?_
          refine r_iand rfl ?_
          refine r_ifneF rfl (A) ?_
          refine r_iload_5 rfl ?_
          refine r_invP_1 rfl rfl (by decide) (c_bitCount (by omega)) ?_
          refine r_iload_4 rfl ?_
          refine r_invP_1 rfl rfl (by decide) (c_bitCount (by omega)) ?_
          refine r_icgtT rfl (Int32.not_le.mp B) ?_
          refine r_iload_4 rfl ?_
          refine r_istore_4 rfl ?_
          refine r_iinc_5 rfl ?_
          refine r_goto rfl ?_
          rw [ed]
          exact kont
      · rw [decide_eq_false A, Bool.false_and] at svj
        rw [if_neg (fun z => by rw [svj] at z; cases z.1)] at kont
        refine r_iload_5 rfl ?_
        refine r_ifltF rfl (nI_pos' (by omega)) ?_
        refine r_iload_5 rfl ?_
        refine r_iload_2 rfl ?_
        refine r_push rfl ?_
        refine r_ixor rfl ?_
        refine r_iand rfl ?_
        refine r_ifneT rfl (A) ?_
        refine r_iload_4 rfl ?_
        refine r_istore_4 rfl ?_
        refine r_iinc_5 rfl ?_
        refine r_goto rfl ?_
        rw [ed]
        exact kont
    · rw [Nat.sub_self]
      refine r_iload_5 rfl ?_
      refine r_ifltT rfl (by decide) ?_
      refine r_iload_4 rfl ?_
      refine r_iret rfl ?_
      exact Or.inl ⟨_, _, rfl, rfl, rfl, rfl⟩
theorem c_yShed (q : MM h y g m) (v : VR m) (p : Int32) : Yc G 4 m_X6_shed [.ref y, .int p] h y g (qShed m p) := by
  have o := q.1
  have m1 := q.thr (nI 1); have m3 := q.thr (nI 0)
  have o1 := m1.1; have o3 := m3.1; have r3 := m3.2
  have h10 := v.ss.2
  have l10 := pow10 h10
  refine wc_in mt_X6_shed rfl (L := [.ref y, .int p, am_un, am_un, am_un, am_un]) rfl ?_
  unfold qShed
  cases e1 : inF p 0 (m 3 - 1) with
  | false =>
    rw [if_pos rfl]
    refine r_aload_0 rfl ?_
    refine r_aload_0 rfl ?_
    refine r_iload_1 rfl ?_
    refine r_invvP_1 rfl (o) rfl rfl (by decide) (c_mIsPerson q p) ?_
    refine r_ifneF rfl (by rw [e1]; rfl) ?_
    refine r_push rfl ?_
    refine r_goto rfl ?_
    refine r_puti rfl (o) rfl ?_
    rw [mo_0]
    refine r_aload_0 rfl ?_
    refine r_getf rfl (o1) (by rfl) ?_
    refine r_ifleF rfl (by rw [upd_eq]; decide) ?_
    refine r_push rfl ?_
    refine r_iret rfl ?_
    rfl
  | true =>
    rw [if_neg (by decide)]
    have e6 := e1
    rw [v.pp.1] at e6
    obtain ⟨k, hk, rfl⟩ := inF_nI (by have := v.pp.2; omega) e6
    have hk6 : k < 6 := by have := v.pp.2; omega
    rw [nI_clamp (show k < 2 ^ 31 by omega)]
    have sv : ∀ s, shV m k s = (decide (nI s &&& (wornF m (nI k) ^^^ (-1)) = 0) && decide (weightF m (wornF m (nI k) &&& (nI s ^^^ (-1))) ≤ minF (m 6) (m (34 + 6 * k)))) := fun _ => rfl
    unfold shB
    refine r_aload_0 rfl ?_
    refine r_aload_0 rfl ?_
    refine r_iload_1 rfl ?_
    refine r_invvP_1 rfl (o) rfl rfl (by decide) (c_mIsPerson q _) ?_
    refine r_ifneT rfl (by rw [e1]; decide) ?_
    refine r_push rfl ?_
    refine r_puti rfl (o) rfl ?_
    rw [mo_0]
    refine r_aload_0 rfl ?_
    refine r_getf rfl (o3) (by rfl) ?_
    refine r_ifleT rfl (by rw [upd_eq]; decide) ?_
    refine r_aload_0 rfl ?_
    refine r_iload_1 rfl ?_
    refine r_invvP_1 rfl (o3) rfl rfl (by decide) (c_mworn m3 v _) ?_
    refine r_istore_2 rfl ?_
    refine r_aload_0 rfl ?_
    refine r_getf rfl (o3) (by rfl) ?_
    refine r_push rfl ?_
    refine r_iald rfl (r3) (show (6 : Int32) = nI 6 from rfl) (by first | assumption | omega) (by first | decide | omega) ?_
    refine r_aload_0 rfl ?_
    refine r_iload_1 rfl ?_
    refine r_push rfl ?_
    refine r_invvP_2 rfl (o3) rfl rfl (by decide) (c_of1 m3 (by omega)) ?_
    refine r_invP_2 rfl rfl (by decide) (c_lesser _ _) ?_
    refine r_istore_3 rfl ?_
    refine r_push rfl ?_
    refine r_istore_4 rfl ?_
    refine r_push rfl ?_
    refine r_istore_5 rfl ?_
    refine wp_for (2 ^ nS m) (fun j => [.ref y, .int (nI k), .int (wornF m (nI k)), .int (minF (m 6) (m (34 + 6 * k))), .int (oneV (ascM (shV m k) (fun s => bitsF (nI s)) j)), .int (nI j)]) (fun j hj kont => ?_) ?_
    · rw [ascM] at kont
      have svj := sv j
      have hc := fun c => ((ascM_ok (V := shV m k) (f := fun s => bitsF (nI s)) j).2 c)
      have bd : nI j < (1 : Int32) <<< (m 4 &&& 31) := by rw [v.ss.1, sh1 _ (by omega)]; exact nI_lt hj (by omega)
      generalize wornF m (nI k) = AA at *
      generalize minF (m 6) (m (34 + 6 * k)) = most at *
      generalize shV m k = V at *
      have keep : ¬ V j = true → Wp G 4 mt_X6_shed 55 [.ref y, .int (nI k), .int AA, .int most, .int (oneV (ascM V (fun s => bitsF (nI s)) j)), .int (nI (j + 1))] [] (mh h y (upd g 0 (nI 0))) (fun R => R = .inl (some (.int (oneV (ascM V (fun s => bitsF (nI s)) (2 ^ nS m)))), mh h y (upd g 0 (nI 0)))) := by
        intro nv
        cases e : ascM V (fun s => bitsF (nI s)) j with
        | none =>
          rw [e] at kont
          simp only [if_neg nv] at kont
          exact kont
        | some c =>
          rw [e] at kont
          simp only [if_neg (fun z : V j = true ∧ bitsF (nI j) < bitsF (nI c) => nv z.1)] at kont
          exact kont
      by_cases A : nI j &&& (AA ^^^ (-1)) = 0
      · by_cases C : weightF m (AA &&& (nI j ^^^ (-1))) ≤ most
        · rw [decide_eq_true A, decide_eq_true C, Bool.and_self] at svj
          cases e : ascM V (fun s => bitsF (nI s)) j with
          | none =>
            rw [e] at kont
            simp only [if_pos svj] at kont
            refine r_iload_5 rfl ?_
            refine r_push rfl ?_
            refine r_aload_0 rfl ?_
            refine r_getf rfl (o3) (by rfl) ?_
            refine r_push rfl ?_
            refine r_iald rfl (r3) (show (4 : Int32) = nI 4 from rfl) (by first | assumption | omega) (by first | decide | omega) ?_
            refine r_ishl rfl ?_
            refine r_icgeF rfl (bd) ?_
            refine r_iload_5 rfl ?_
            refine r_iload_2 rfl ?_
            refine r_push rfl ?_
            refine r_ixor rfl ?_
            refine r_iand rfl ?_
            refine r_ifneF rfl (A) ?_
            refine r_aload_0 rfl ?_
            refine r_iload_2 rfl ?_
            refine r_iload_5 rfl ?_
            refine r_push rfl ?_
            refine r_ixor rfl ?_
            refine r_iand rfl ?_
            refine r_invvP_1 rfl (o3) rfl rfl (by decide) (c_mweightOf m3 v _) ?_
            refine r_iload_3 rfl ?_
            refine r_icgtF rfl (C) ?_
            refine r_iload_4 rfl ?_
            refine r_push rfl ?_
            refine r_iceqT rfl (rfl) ?_
            refine r_iload_5 rfl ?_
            refine r_istore_4 rfl ?_
            refine r_iinc_5 rfl ?_
            refine r_goto rfl ?_
            rw [nI_1]
            exact kont
          | some c =>
            have := (hc c e).2.1
            rw [e] at kont
            by_cases B : bitsF (nI j) < bitsF (nI c)
            · simp only [if_pos (show V j = true ∧ bitsF (nI j) < bitsF (nI c) from ⟨svj, B⟩)] at kont
              refine r_iload_5 rfl ?_
              refine r_push rfl ?_
              refine r_aload_0 rfl ?_
              refine r_getf rfl (o3) (by rfl) ?_
              refine r_push rfl ?_
              refine r_iald rfl (r3) (show (4 : Int32) = nI 4 from rfl) (by first | assumption | omega) (by first | decide | omega) ?_
              refine r_ishl rfl ?_
              refine r_icgeF rfl (bd) ?_
              refine r_iload_5 rfl ?_
              refine r_iload_2 rfl ?_
              refine r_push rfl ?_
              refine r_ixor rfl ?_
              refine r_iand rfl ?_
              refine r_ifneF rfl (A) ?_
              refine r_aload_0 rfl ?_
              refine r_iload_2 rfl ?_
              refine r_iload_5 rfl ?_
              refine r_push rfl ?_
              refine r_ixor rfl ?_
              refine r_iand rfl ?_
              refine r_invvP_1 rfl (o3) rfl rfl (by decide) (c_mweightOf m3 v _) ?_
              refine r_iload_3 rfl ?_
              refine r_icgtF rfl (C) ?_
              refine r_iload_4 rfl ?_
              refine r_push rfl ?_
              refine r_iceqF rfl (nI_neg1 (a := c) (by omega)) ?_
              refine r_iload_5 rfl ?_
              refine r_invP_1 rfl rfl (by decide) (c_mbits _) ?_
              refine r_iload_4 rfl ?_
              refine r_invP_1 rfl rfl (by decide) (c_mbits _) ?_
              refine r_icgeF rfl (B) ?_
              refine r_iload_5 rfl ?_
              refine r_istore_4 rfl ?_
              refine r_iinc_5 rfl ?_
              refine r_goto rfl ?_
              rw [nI_1]
              exact kont
            · simp only [if_neg (fun z : V j = true ∧ bitsF (nI j) < bitsF (nI c) => B z.2)] at kont
              refine r_iload_5 rfl ?_
              refine r_push rfl ?_
              refine r_aload_0 rfl ?_
              refine r_getf rfl (o3) (by rfl) ?_
              refine r_push rfl ?_
              refine r_iald rfl (r3) (show (4 : Int32) = nI 4 from rfl) (by first | assumption | omega) (by first | decide | omega) ?_
              refine r_ishl rfl ?_
              refine r_icgeF rfl (bd) ?_
              refine r_iload_5 rfl ?_
              refine r_iload_2 rfl ?_
              refine r_push rfl ?_
              refine r_ixor rfl ?_
              refine r_iand rfl ?_
              refine r_ifneF rfl (A) ?_
              refine r_aload_0 rfl ?_
              refine r_iload_2 rfl ?_
              refine r_iload_5 rfl ?_
              refine r_push rfl ?_
              refine r_ixor rfl ?_
              refine r_iand rfl ?_
              refine r_invvP_1 rfl (o3) rfl rfl (by decide) (c_mweightOf m3 v _) ?_
              refine r_iload_3 rfl ?_
              refine r_icgtF rfl (C) ?_
              refine r_iload_4 rfl ?_
              refine r_push rfl ?_
              refine r_iceqF rfl (nI_neg1 (a := c) (by omega)) ?_
              refine r_iload_5 rfl ?_
              refine r_invP_1 rfl rfl (by decide) (c_mbits _) ?_
              refine r_iload_4 rfl ?_
              refine r_invP_1 rfl rfl (by decide) (c_mbits _) ?_
              refine r_icgeT rfl (Int32.not_lt.mp B) ?_
              refine r_iinc_5 rfl ?_
              refine r_goto rfl ?_
              rw [nI_1]
              exact kont
        · rw [decide_eq_false C, Bool.and_false] at svj
          refine r_iload_5 rfl ?_
          refine r_push rfl ?_
          refine r_aload_0 rfl ?_
          refine r_getf rfl (o3) (by rfl) ?_
          refine r_push rfl ?_
          refine r_iald rfl (r3) (show (4 : Int32) = nI 4 from rfl) (by first | assumption | omega) (by first | decide | omega) ?_
          refine r_ishl rfl ?_
          refine r_icgeF rfl (bd) ?_
          refine r_iload_5 rfl ?_
          refine r_iload_2 rfl ?_
          refine r_push rfl ?_
          refine r_ixor rfl ?_
          refine r_iand rfl ?_
          refine r_ifneF rfl (A) ?_
          refine r_aload_0 rfl ?_
          refine r_iload_2 rfl ?_
          refine r_iload_5 rfl ?_
          refine r_push rfl ?_
          refine r_ixor rfl ?_
          refine r_iand rfl ?_
          refine r_invvP_1 rfl (o3) rfl rfl (by decide) (c_mweightOf m3 v _) ?_
          refine r_iload_3 rfl ?_
          refine r_icgtT rfl (Int32.not_le.mp C) ?_
          refine r_iinc_5 rfl ?_
          refine r_goto rfl ?_
          rw [nI_1]
          exact keep (by rw [svj]; decide)
      · rw [decide_eq_false A, Bool.false_and] at svj
        refine r_iload_5 rfl ?_
        refine r_push rfl ?_
        refine r_aload_0 rfl ?_
        refine r_getf rfl (o3) (by rfl) ?_
        refine r_push rfl ?_
        refine r_iald rfl (r3) (show (4 : Int32) = nI 4 from rfl) (by first | assumption | omega) (by first | decide | omega) ?_
        refine r_ishl rfl ?_
        refine r_icgeF rfl (bd) ?_
        refine r_iload_5 rfl ?_
        refine r_iload_2 rfl ?_
        refine r_push rfl ?_
        refine r_ixor rfl ?_
        refine r_iand rfl ?_
        refine r_ifneT rfl (A) ?_
        refine r_iinc_5 rfl ?_
        refine r_goto rfl ?_
        rw [nI_1]
        exact keep (by rw [svj]; decide)
    · have bd : (1 : Int32) <<< (m 4 &&& 31) ≤ nI (2 ^ nS m) := by rw [v.ss.1, sh1 _ (by omega)]; exact Int32.le_refl _
      refine r_iload_5 rfl ?_
      refine r_push rfl ?_
      refine r_aload_0 rfl ?_
      refine r_getf rfl (o3) (by rfl) ?_
      refine r_push rfl ?_
      refine r_iald rfl (r3) (show (4 : Int32) = nI 4 from rfl) (by first | assumption | omega) (by first | decide | omega) ?_
      refine r_ishl rfl ?_
      refine r_icgeT rfl (bd) ?_
      refine r_iload_4 rfl ?_
      refine r_iret rfl ?_
      rfl
end
