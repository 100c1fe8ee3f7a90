/-! SETS as bits -/
set_option maxRecDepth 100000
def tb (x : Int32) (i : Nat) : Bool := x.toBitVec.getLsbD i
theorem tb_ext {x y : Int32} (h : ∀ i, i < 32 → tb x i = tb y i) : x = y := by
  apply Int32.toBitVec_inj.mp
  apply BitVec.eq_of_getLsbD_eq
  intro i hi
  exact h i hi
theorem tb_big {x : Int32} {i : Nat} (h : 32 ≤ i) : tb x i = false := BitVec.getLsbD_of_ge _ _ h
theorem tb_or (x y : Int32) (i : Nat) : tb (x ||| y) i = (tb x i || tb y i) := by
  unfold tb
  rw [Int32.toBitVec_or, BitVec.getLsbD_or]
theorem tb_and (x y : Int32) (i : Nat) : tb (x &&& y) i = (tb x i && tb y i) := by
  unfold tb
  rw [Int32.toBitVec_and, BitVec.getLsbD_and]
theorem tb_m1 : ∀ i, i < 32 → tb (-1) i = true := by decide +kernel
theorem tb_0 (i : Nat) : tb 0 i = false := by
  unfold tb
  exact BitVec.getLsbD_zero
theorem tb_1 : ∀ i, i < 32 → tb 1 i = decide (i = 0) := by decide +kernel
theorem tb_not (x : Int32) {i : Nat} (hi : i < 32) : tb (x ^^^ (-1)) i = !tb x i := by
  have e := tb_m1 i hi
  unfold tb at e ⊢
  rw [Int32.toBitVec_xor, BitVec.getLsbD_xor, e]
  cases x.toBitVec.getLsbD i <;> rfl
theorem tb_sh : ∀ k, k < 32 → ((1 : Int32) <<< (nI k &&& 31)).toBitVec = BitVec.twoPow 32 k := by decide +kernel
theorem tb_bit {k i : Nat} (hk : k < 32) (hi : i < 32) : tb ((1 : Int32) <<< (nI k &&& 31)) i = decide (k = i) := by
  unfold tb
  rw [tb_sh k hk, BitVec.getLsbD_twoPow]
  simp [hk]
theorem tb_sm : ∀ k, k < 32 → ((nI k &&& 31).toBitVec.smod 32).toNat = k := by decide +kernel
theorem tb_shr (x : Int32) {k : Nat} (hk : k < 32) : tb (x >>> (nI k &&& 31)) 0 = tb x k := by
  unfold tb
  rw [Int32.toBitVec_shiftRight, BitVec.sshiftRight', tb_sm k hk, BitVec.getLsbD_sshiftRight]
  simp [hk]
theorem and1 (y : Int32) : y &&& 1 = 1 ↔ tb y 0 = true := by
  constructor
  · intro e
    have := congrArg (fun z => tb z 0) e
    simp only [tb_and] at this
    rw [tb_1 0 (by decide)] at this
    simpa using this
  · intro e
    apply tb_ext
    intro i hi
    rw [tb_and, tb_1 i hi]
    by_cases c : i = 0
    · subst c; rw [e]; rfl
    · rw [decide_eq_false c, Bool.and_false]
theorem isF_tb (x : Int32) {k : Nat} (hk : k < 32) : isF x (nI k) = tb x k := by
  unfold isF
  have := and1 (x >>> (nI k &&& 31))
  rw [tb_shr x hk] at this
  cases e : tb x k with
  | true => exact decide_eq_true (this.mpr e)
  | false => exact decide_eq_false (fun z => by rw [this.mp z] at e; cases e)
theorem tb_bsF {c : Nat → Bool} : ∀ {n : Nat}, n ≤ 32 → ∀ i, i < 32 → tb (bsF c n) i = (decide (i < n) && c i)
  | 0, _, i, _ => by show tb 0 i = _; rw [tb_0]; simp
  | n + 1, hn, i, hi => by
    have ih := tb_bsF (c := c) (n := n) (by omega) i hi
    cases e : c n with
    | true =>
      rw [bsF_t e, tb_or, ih, tb_bit (by omega) hi]
      by_cases z : n = i
      · subst z; simp [e]
      · rw [decide_eq_false z, Bool.or_false]
        by_cases w : i < n
        · rw [decide_eq_true w, decide_eq_true (by omega)]
        · rw [decide_eq_false w, decide_eq_false (by omega)]
    | false =>
      rw [bsF_f e, tb_or, ih, tb_0, Bool.or_false]
      by_cases z : i = n
      · subst z; simp [e]
      · by_cases w : i < n
        · rw [decide_eq_true w, decide_eq_true (by omega)]
        · rw [decide_eq_false w, decide_eq_false (by omega)]
theorem bsF_diff {c d : Nat → Bool} {n : Nat} (hn : n ≤ 32) : bsF c n &&& (bsF d n ^^^ (-1)) = bsF (fun k => c k && !d k) n := by
  apply tb_ext
  intro i hi
  rw [tb_and, tb_not _ hi, tb_bsF hn i hi, tb_bsF hn i hi, tb_bsF hn i hi]
  cases decide (i < n) <;> cases c i <;> cases d i <;> rfl
/-- sets are one as they have the same members -/
theorem isF_bsF {c : Nat → Bool} {n k : Nat} (hn : n ≤ 32) (hk : k < 32) : isF (bsF c n) (nI k) = (decide (k < n) && c k) := by rw [isF_tb _ hk, tb_bsF hn k hk]
/-- a sum over a set that is told by its members -/
theorem weightF_bs {m : Nat → Int32} {c : Nat → Bool} (h : nS m ≤ 10) : weightF m (bsF c (nS m)) = smF (fun s => if c s = true then m (71 + 6 * s) else 0) (nS m) := by
  unfold weightF
  refine smF_congr fun s hs => ?_
  rw [isF_bsF (by omega) (by omega), decide_eq_true hs, Bool.true_and]
theorem bearF_eq {m : Nat → Int32} {x : Int32} (h : nS m ≤ 10) : wornF m x &&& (owedF m x ^^^ (-1)) = bearF m x := by
  unfold wornF owedF bearF
  rw [bsF_diff (by omega)]
  refine bsF_congr fun s _ => ?_
  by_cases c : m (72 + 6 * s) = 0
  · have : ¬ m (72 + 6 * s) = 2 := by rw [c]; decide
    rw [decide_eq_true c, decide_eq_false this]
    simp
  · rw [decide_eq_false c]; rfl
theorem upw_eq {m : Nat → Int32} (v : VR m) : weightF m (unpaidF m) = upwF m := by
  have h := v.ss.2
  have e : unpaidF m = bsF (fun s => !decide (m (72 + 6 * s) = 2)) (nS m) := by
    unfold unpaidF stateF
    apply tb_ext
    intro i hi
    rw [tb_or, tb_bsF (by omega) i hi, tb_bsF (by omega) i hi, tb_bsF (by omega) i hi]
    by_cases c : i < nS m
    · obtain ⟨q, hq, e⟩ := (v.st i c).2.2.2.1
      rw [decide_eq_true c, e]
      rcases (show q = 0 ∨ q = 1 ∨ q = 2 by omega) with rfl | rfl | rfl <;> rfl
    · rw [decide_eq_false c]; rfl
  rw [e, weightF_bs h]
  unfold upwF
  refine smF_congr fun s _ => ?_
  by_cases c : m (72 + 6 * s) = 2
  · rw [if_pos c, decide_eq_true c]; rfl
  · rw [if_neg c, decide_eq_false c]; rfl
