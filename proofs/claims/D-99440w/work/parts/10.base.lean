/-! BASE: words of the pure picture; leaf methods -/
set_option maxRecDepth 100000
def bI (b : Bool) : Int32 := if b then 1 else 0
theorem bI_01 (b : Bool) : bI b = 0 ∨ bI b = 1 := by cases b <;> decide
theorem bI_0 {b : Bool} : bI b = 0 ↔ b = false := by cases b <;> decide
theorem bI_n0 {b : Bool} : ¬ bI b = 0 ↔ b = true := by cases b <;> decide
theorem bI_1 {b : Bool} : bI b = 1 ↔ b = true := by cases b <;> decide
/-- bits of what holds, as the loops gather them -/
def bsF (c : Nat → Bool) : Nat → Int32
  | 0 => 0
  | k + 1 => bsF c k ||| (if c k = true then (1 : Int32) <<< (nI k &&& 31) else 0)
def smF (g : Nat → Int32) : Nat → Int32
  | 0 => 0
  | k + 1 => smF g k + g k
theorem bsF_t {c : Nat → Bool} {k : Nat} (h : c k = true) : bsF c (k + 1) = bsF c k ||| (1 : Int32) <<< (nI k &&& 31) := by simp only [bsF, h, if_true]
theorem bsF_f {c : Nat → Bool} {k : Nat} (h : c k = false) : bsF c (k + 1) = bsF c k ||| 0 := by simp only [bsF, h]; rfl
theorem bsF_congr {c d : Nat → Bool} : ∀ {n : Nat}, (∀ k, k < n → c k = d k) → bsF c n = bsF d n
  | 0, _ => rfl
  | n + 1, h => by simp only [bsF]; rw [bsF_congr (fun k q => h k (Nat.lt_succ_of_lt q)), h n (Nat.lt_succ_self n)]
theorem smF_congr {c d : Nat → Int32} : ∀ {n : Nat}, (∀ k, k < n → c k = d k) → smF c n = smF d n
  | 0, _ => rfl
  | n + 1, h => by simp only [smF]; rw [smF_congr (fun k q => h k (Nat.lt_succ_of_lt q)), h n (Nat.lt_succ_self n)]
def isF (set k : Int32) : Bool := decide ((set >>> (k &&& 31)) &&& 1 = 1)
def inF (v lo hi : Int32) : Bool := decide (lo ≤ v) && decide (v ≤ hi)
def minF (a b : Int32) : Int32 := if a ≤ b then a else b
def maxF (a b : Int32) : Int32 := if b ≤ a then a else b
theorem minF_l {a b : Int32} (h : a ≤ b) : minF a b = a := if_pos h
theorem minF_g {a b : Int32} (h : b ≤ a) : minF a b = b := by
  unfold minF
  by_cases e : a ≤ b
  · rw [if_pos e, Int32.le_antisymm e h]
  · rw [if_neg e]
theorem maxF_g {a b : Int32} (h : b ≤ a) : maxF a b = a := if_pos h
theorem maxF_l {a b : Int32} (h : a ≤ b) : maxF a b = b := by
  unfold maxF
  by_cases e : b ≤ a
  · rw [if_pos e, Int32.le_antisymm h e]
  · rw [if_neg e]
/-- a loop that counts up over states that are functions of the count -/
theorem wp_for {G : am_G} {d : Nat} {M : am_M} {pc : Nat} {h : am_H} {Q : am_O → Prop} (N : Nat) (I : Nat → List Value) (hs : ∀ j, j < N → Wp G d M pc (I (j + 1)) [] h Q → Wp G d M pc (I j) [] h Q) (he : Wp G d M pc (I N) [] h Q) : Wp G d M pc (I 0) [] h Q := by
  have key : ∀ n j, j + n = N → Wp G d M pc (I j) [] h Q := by
    intro n
    induction n with
    | zero => intro j hj; rw [show j = N by omega]; exact he
    | succ n ih => intro j hj; exact hs j (by omega) (ih (j + 1) (by omega))
  exact key N 0 (by omega)
/-- .. that change the heap -/
theorem wp_forH {G : am_G} {d : Nat} {M : am_M} {pc : Nat} {Q : am_O → Prop} (N : Nat) (I : Nat → List Value → am_H → Prop) (hs : ∀ j L h, j < N → I j L h → (∀ L' h', I (j + 1) L' h' → Wp G d M pc L' [] h' Q) → Wp G d M pc L [] h Q) (he : ∀ L h, I N L h → Wp G d M pc L [] h Q) : ∀ L h, I 0 L h → Wp G d M pc L [] h Q := by
  have key : ∀ n j, j + n = N → ∀ L h, I j L h → Wp G d M pc L [] h Q := by
    intro n
    induction n with
    | zero => intro j hj L h q; rw [show j = N by omega] at q; exact he L h q
    | succ n ih => intro j hj L h q; exact hs j L h (by omega) q (ih (j + 1) (by omega))
  exact key N 0 (by omega)
section
variable {G : am_G} {h : am_H}
theorem c_has (x k : Int32) : Vc G 0 m_X1_has [.int x, .int k] h (.int (bI (isF x k))) := by
  refine wc_in mt_X1_has rfl (L := [.int x, .int k]) rfl ?_
  refine r_iload_0 rfl ?_
  refine r_iload_1 rfl ?_
  refine r_ishr rfl ?_
  refine r_push rfl ?_
  refine r_iand rfl ?_
  refine r_push rfl ?_
  refine r_icne rfl (fun c_6 => ?_) (fun c_6 => ?_)
  · refine r_push rfl ?_
    refine r_zret rfl (by first | decide | assumption) ?_
    simp only [bI, isF, decide_eq_true_eq]; first | rw [if_pos c_6] | rw [if_neg c_6]
  · refine r_push rfl ?_
    refine r_goto rfl ?_
    refine r_zret rfl (by first | decide | assumption) ?_
    simp only [bI, isF, decide_eq_true_eq]; first | rw [if_pos c_6] | rw [if_neg c_6]
theorem c_isOf (x k : Int32) : Vc G 0 m_X6_isOf [.int x, .int k] h (.int (bI (isF x k))) := by
  refine wc_in mt_X6_isOf rfl (L := [.int x, .int k]) rfl ?_
  refine r_iload_0 rfl ?_
  refine r_iload_1 rfl ?_
  refine r_ishr rfl ?_
  refine r_push rfl ?_
  refine r_iand rfl ?_
  refine r_push rfl ?_
  refine r_icne rfl (fun c_6 => ?_) (fun c_6 => ?_)
  · refine r_push rfl ?_
    refine r_zret rfl (by first | decide | assumption) ?_
    simp only [bI, isF, decide_eq_true_eq]; first | rw [if_pos c_6] | rw [if_neg c_6]
  · refine r_push rfl ?_
    refine r_goto rfl ?_
    refine r_zret rfl (by first | decide | assumption) ?_
    simp only [bI, isF, decide_eq_true_eq]; first | rw [if_pos c_6] | rw [if_neg c_6]
theorem inF_t {v lo hi : Int32} (h1 : lo ≤ v) (h2 : v ≤ hi) : inF v lo hi = true := by simp [inF, h1, h2]
theorem inF_l {v lo hi : Int32} (h1 : v < lo) : inF v lo hi = false := by simp [inF, Int32.not_le.mpr h1]
theorem inF_h {v lo hi : Int32} (h1 : hi < v) : inF v lo hi = false := by simp [inF, Int32.not_le.mpr h1]
theorem c_in (v lo hi : Int32) : Vc G 0 m_X1_in [.int v, .int lo, .int hi] h (.int (bI (inF v lo hi))) := by
  refine wc_in mt_X1_in rfl (L := [.int v, .int lo, .int hi]) rfl ?_
  refine r_iload_0 rfl ?_
  refine r_iload_1 rfl ?_
  refine r_iclt rfl (fun c_2 => ?_) (fun c_2 => ?_)
  · refine r_push rfl ?_
    refine r_zret rfl (by first | decide | assumption) ?_
    first | rw [inF_l c_2]; rfl | rw [inF_h c_7]; rfl | rw [inF_t c_2 c_7]; rfl
  · refine r_iload_0 rfl ?_
    refine r_iload_2 rfl ?_
    refine r_icgt rfl (fun c_7 => ?_) (fun c_7 => ?_)
    · refine r_push rfl ?_
      refine r_zret rfl (by first | decide | assumption) ?_
      first | rw [inF_l c_2]; rfl | rw [inF_h c_7]; rfl | rw [inF_t c_2 c_7]; rfl
    · refine r_push rfl ?_
      refine r_goto rfl ?_
      refine r_zret rfl (by first | decide | assumption) ?_
      first | rw [inF_l c_2]; rfl | rw [inF_h c_7]; rfl | rw [inF_t c_2 c_7]; rfl
theorem c_isIn (v lo hi : Int32) : Vc G 0 m_X6_isIn [.int v, .int lo, .int hi] h (.int (bI (inF v lo hi))) := by
  refine wc_in mt_X6_isIn rfl (L := [.int v, .int lo, .int hi]) rfl ?_
  refine r_iload_0 rfl ?_
  refine r_iload_1 rfl ?_
  refine r_iclt rfl (fun c_2 => ?_) (fun c_2 => ?_)
  · refine r_push rfl ?_
    refine r_zret rfl (by first | decide | assumption) ?_
    first | rw [inF_l c_2]; rfl | rw [inF_h c_7]; rfl | rw [inF_t c_2 c_7]; rfl
  · refine r_iload_0 rfl ?_
    refine r_iload_2 rfl ?_
    refine r_icgt rfl (fun c_7 => ?_) (fun c_7 => ?_)
    · refine r_push rfl ?_
      refine r_zret rfl (by first | decide | assumption) ?_
      first | rw [inF_l c_2]; rfl | rw [inF_h c_7]; rfl | rw [inF_t c_2 c_7]; rfl
    · refine r_push rfl ?_
      refine r_goto rfl ?_
      refine r_zret rfl (by first | decide | assumption) ?_
      first | rw [inF_l c_2]; rfl | rw [inF_h c_7]; rfl | rw [inF_t c_2 c_7]; rfl
theorem c_min (a b : Int32) : Vc G 0 m_J8_min [.int a, .int b] h (.int (minF a b)) := by
  refine wc_in mt_J8_min rfl (L := [.int a, .int b]) rfl ?_
  refine r_iload_0 rfl ?_
  refine r_iload_1 rfl ?_
  refine r_icgt rfl (fun c_2 => ?_) (fun c_2 => ?_)
  · refine r_iload_1 rfl ?_
    refine r_iret rfl ?_
    unfold minF; first | rw [if_pos c_2] | rw [if_neg (Int32.not_le.mpr c_2)]
  · refine r_iload_0 rfl ?_
    refine r_goto rfl ?_
    refine r_iret rfl ?_
    unfold minF; first | rw [if_pos c_2] | rw [if_neg (Int32.not_le.mpr c_2)]
theorem c_max (a b : Int32) : Vc G 0 m_J8_max [.int a, .int b] h (.int (maxF a b)) := by
  refine wc_in mt_J8_max rfl (L := [.int a, .int b]) rfl ?_
  refine r_iload_0 rfl ?_
  refine r_iload_1 rfl ?_
  refine r_iclt rfl (fun c_2 => ?_) (fun c_2 => ?_)
  · refine r_iload_1 rfl ?_
    refine r_iret rfl ?_
    unfold maxF; first | rw [if_pos c_2] | rw [if_neg (Int32.not_le.mpr c_2)]
  · refine r_iload_0 rfl ?_
    refine r_goto rfl ?_
    refine r_iret rfl ?_
    unfold maxF; first | rw [if_pos c_2] | rw [if_neg (Int32.not_le.mpr c_2)]
theorem c_lesser (a b : Int32) : Vc G 0 m_X6_lesser [.int a, .int b] h (.int (minF a b)) := by
  refine wc_in mt_X6_lesser rfl (L := [.int a, .int b]) rfl ?_
  refine r_iload_0 rfl ?_
  refine r_iload_1 rfl ?_
  refine r_icge rfl (fun c_2 => ?_) (fun c_2 => ?_)
  · refine r_iload_1 rfl ?_
    refine r_iret rfl ?_
    first | rw [minF_l (Int32.le_of_lt c_2)] | rw [minF_g c_2]
  · refine r_iload_0 rfl ?_
    refine r_goto rfl ?_
    refine r_iret rfl ?_
    first | rw [minF_l (Int32.le_of_lt c_2)] | rw [minF_g c_2]
theorem c_greater (a b : Int32) : Vc G 0 m_X6_greater [.int a, .int b] h (.int (maxF a b)) := by
  refine wc_in mt_X6_greater rfl (L := [.int a, .int b]) rfl ?_
  refine r_iload_0 rfl ?_
  refine r_iload_1 rfl ?_
  refine r_icle rfl (fun c_2 => ?_) (fun c_2 => ?_)
  · refine r_iload_1 rfl ?_
    refine r_iret rfl ?_
    first | rw [maxF_g (Int32.le_of_lt c_2)] | rw [maxF_l c_2]
  · refine r_iload_0 rfl ?_
    refine r_goto rfl ?_
    refine r_iret rfl ?_
    first | rw [maxF_g (Int32.le_of_lt c_2)] | rw [maxF_l c_2]
end
