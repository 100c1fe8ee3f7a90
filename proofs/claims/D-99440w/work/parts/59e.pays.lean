/-! WHAT IS ASKED: pays on both sides -/
set_option maxRecDepth 100000
theorem tb_nI {a i : Nat} (h : i < 32) : tb (nI a) i = a.testBit i := by
  unfold tb
  rw [show (nI a).toBitVec = BitVec.ofNat 32 a from rfl, BitVec.getLsbD_ofNat, decide_eq_true h, Bool.true_and]
def bsN (c : Nat → Bool) : Nat → Nat
  | 0 => 0
  | k + 1 => bsN c k ||| (if c k = true then 2 ^ k else 0)
theorem bsN_bit {c : Nat → Bool} : ∀ (n i : Nat), (bsN c n).testBit i = (decide (i < n) && c i)
  | 0, i => by simp [bsN]
  | n + 1, i => by
    rw [bsN, Nat.testBit_or, bsN_bit n i]
    by_cases z : i = n
    · subst z
      cases e : c i <;> simp [Nat.testBit_two_pow]
    · have : (if c n = true then 2 ^ n else 0).testBit i = false := by
        split
        · rw [Nat.testBit_two_pow, decide_eq_false (Ne.symm z)]
        · exact Nat.zero_testBit _
      rw [this, Bool.or_false]
      by_cases w : i < n
      · rw [decide_eq_true w, decide_eq_true (by omega)]
      · rw [decide_eq_false w, decide_eq_false (by omega)]
theorem bsN_lt {c : Nat → Bool} {n : Nat} : bsN c n < 2 ^ n := Nat.lt_pow_two_of_testBit _ (fun i hi => by rw [bsN_bit, decide_eq_false (by omega), Bool.false_and])
theorem bsF_N {c : Nat → Bool} {n : Nat} (hn : n ≤ 32) : bsF c n = nI (bsN c n) := tb_ext fun i hi => by rw [tb_bsF hn i hi, tb_nI hi, bsN_bit]
theorem sh1 : ∀ k, k < 31 → (1 : Int32) <<< (nI k &&& 31) = nI (2 ^ k) := by decide +kernel
/-- one set lies in another one -/
theorem sub_iff {s a : Nat} (hs : s < 2 ^ 31) : nI s &&& (nI a ^^^ (-1)) = 0 ↔ s &&& a = s := by
  constructor
  · intro e
    apply Nat.eq_of_testBit_eq
    intro i
    rw [Nat.testBit_and]
    by_cases hi : i < 32
    · have := congrArg (fun z => tb z i) e
      simp only [tb_and, tb_not _ hi, tb_nI hi, tb_0] at this
      revert this
      cases s.testBit i <;> cases a.testBit i <;> decide
    · rw [Nat.testBit_lt_two_pow (Nat.lt_of_lt_of_le hs (Nat.pow_le_pow_right (by decide) (show 31 ≤ i by omega))), Bool.false_and]
  · intro e
    apply tb_ext
    intro i hi
    rw [tb_and, tb_not _ hi, tb_nI hi, tb_nI hi, tb_0]
    have := congrArg (fun z => Nat.testBit z i) e
    simp only [Nat.testBit_and] at this
    revert this
    cases s.testBit i <;> cases a.testBit i <;> decide
theorem sub_le {s a : Nat} (hs : s < 2 ^ 31) (e : nI s &&& (nI a ^^^ (-1)) = 0) : s ≤ a := by
  have := (sub_iff hs).mp e
  have h2 : s &&& a ≤ a := Nat.and_le_right
  omega
/-- the best set of the first so many -/
def paN (m : Nat → Int32) (A P : Int32) : Nat → Int32
  | 0 => 0
  | s + 1 => if (nI s &&& (A ^^^ (-1)) = 0) ∧ weightF m (nI s) ≤ P ∧ weightF m (paN m A P s) < weightF m (nI s) then nI s else paN m A P s
theorem paN_1 {m : Nat → Int32} {A P : Int32} : paN m A P 1 = 0 := by
  rw [paN]
  split
  · rfl
  · rfl
theorem paN_end {m : Nat → Int32} {a : Nat} {P : Int32} : ∀ n, a + 1 + n < 2 ^ 31 → paN m (nI a) P (a + 1 + n) = paN m (nI a) P (a + 1)
  | 0, _ => rfl
  | n + 1, h => by
    rw [show a + 1 + (n + 1) = (a + 1 + n) + 1 by omega, paN, if_neg, paN_end n (by omega)]
    intro z
    have := sub_le (by omega) z.1
    omega
def paB (m : Nat → Int32) (p : Nat) : Int32 := paN m (owedF m (nI p)) (m (33 + 6 * p)) (2 ^ nS m)
def qPays (m : Nat → Int32) (p much : Int32) : Nat × Int32 := if inF p 0 (m 3 - 1) = false then (1, 0) else (0, if much = 0 then paB m p.toNatClampNeg else weightF m (paB m p.toNatClampNeg))
theorem pow10 {n : Nat} (h : n ≤ 10) : 2 ^ n ≤ 1024 := Nat.pow_le_pow_right (by decide) h
section
variable {G : am_G} {h : am_H} {x y : Nat} {hi : Bool} {m b g : Nat → Int32} {l : Value}
theorem c_xPays (o : h.1 x = some (.inr (0, xobj x hi))) (q : WA h (x + 1) m b l) (v : VR m) (yb : BY b m) (p much : Int32) : Qt G 4 m_X1_pays [.ref x, .int p, .int much] h (qPays m p much) (k1 20) := by
  have o1 := wa_o q; have a1 := wa_pu q
  refine wc_in mt_X1_pays rfl (L := [.ref x, .int p, .int much, am_un, am_un, am_un]) rfl ?_
  refine r_aload_0 rfl ?_
  refine r_iload_1 rfl ?_
  unfold qPays
  cases e1 : inF p 0 (m 3 - 1) with
  | false =>
    rw [if_pos rfl]
    refine r_invvX rfl rfl o rfl rfl rfl (by decide) (c_personAtF o q e1) ?_
    exact Or.inr ⟨_, _, rfl, by decide, rfl, rfl⟩
  | true =>
    rw [if_neg (by decide)]
    refine r_invvO rfl rfl o rfl rfl (by decide) (c_personAtT o q e1) ?_
    rw [v.pp.1] at e1
    obtain ⟨k, hk, rfl⟩ := inF_nI (by have := v.pp.2; omega) e1
    have hk6 : k < 6 := by have := v.pp.2; omega
    rw [nI_clamp (show k < 2 ^ 31 by omega)]
    have h10 := v.ss.2
    have eo : owedF m (nI k) = nI (bsN (fun s => !decide (m (72 + 6 * s) = 2) && decide (m (69 + 6 * s) = nI k)) (nS m)) := bsF_N (by omega)
    have lo : bsN (fun s => !decide (m (72 + 6 * s) = 2) && decide (m (69 + 6 * s) = nI k)) (nS m) < 2 ^ nS m := bsN_lt
    have l10 := pow10 h10
    have eb : paB m k = paN m (nI (bsN (fun s => !decide (m (72 + 6 * s) = 2) && decide (m (69 + 6 * s) = nI k)) (nS m))) (m (33 + 6 * k)) (bsN (fun s => !decide (m (72 + 6 * s) = 2) && decide (m (69 + 6 * s) = nI k)) (nS m) + 1) := by
      unfold paB
      rw [eo]
      obtain ⟨n, hn⟩ : ∃ n, 2 ^ nS m = bsN (fun s => !decide (m (72 + 6 * s) = 2) && decide (m (69 + 6 * s) = nI k)) (nS m) + 1 + n := ⟨2 ^ nS m - (bsN (fun s => !decide (m (72 + 6 * s) = 2) && decide (m (69 + 6 * s) = nI k)) (nS m) + 1), by omega⟩
      rw [hn]
      exact paN_end n (by omega)
    rw [eb]
    clear eb
    refine r_aload_0 rfl ?_
    refine r_getf rfl o rfl ?_
    refine r_iload_1 rfl ?_
    refine r_invvP_1 rfl o1 rfl rfl (by decide) (c_owedBy q v _) ?_
    rw [eo]
    generalize bsN (fun s => !decide (m (72 + 6 * s) = 2) && decide (m (69 + 6 * s) = nI k)) (nS m) = a at *
    clear eo
    refine r_istore_3 rfl ?_
    refine r_push rfl ?_
    refine r_istore_4 rfl ?_
    refine r_push rfl ?_
    refine r_istore_5 rfl ?_
    have start : Wp G 4 mt_X1_pays 20 [.ref x, .int (nI k), .int much, .int (nI a), .int (paN m (nI a) (m (33 + 6 * k)) (0 + 1)), .int (nI (0 + 1))] [] h (fun R => (∃ v h1, R = .inl (some v, h1) ∧ QV h (0, if much = 0 then paN m (nI a) (m (33 + 6 * k)) (a + 1) else weightF m (paN m (nI a) (m (33 + 6 * k)) (a + 1))) v h1) ∨ (∃ c h1, R = .inr (c, h1) ∧ QX h (0, if much = 0 then paN m (nI a) (m (33 + 6 * k)) (a + 1) else weightF m (paN m (nI a) (m (33 + 6 * k)) (a + 1))) (k1 20) c h1)) := by
      refine wp_for a (fun j => [.ref x, .int (nI k), .int much, .int (nI a), .int (paN m (nI a) (m (33 + 6 * k)) (j + 1)), .int (nI (j + 1))]) (fun j hj kont => ?_) ?_
      · rw [paN] at kont
        have op := cl_in (f := fun p => m (33 + 6 * p)) hk6
        by_cases A : nI (j + 1) &&& (nI a ^^^ (-1)) = 0
        · by_cases B : weightF m (nI (j + 1)) ≤ m (33 + 6 * k)
          · by_cases C : weightF m (paN m (nI a) (m (33 + 6 * k)) (j + 1)) < weightF m (nI (j + 1))
            · rw [if_pos ⟨A, B, C⟩] at kont
              refine r_iload_5 rfl ?_
              refine r_iload_3 rfl ?_
              refine r_icgtF rfl (nI_le (by omega) (by omega)) ?_
              refine r_iload_5 rfl ?_
              refine r_iload_3 rfl ?_
              refine r_push rfl ?_
              refine r_ixor rfl ?_
              refine r_iand rfl ?_
              refine r_ifneF rfl (A) ?_
              refine r_aload_0 rfl ?_
              refine r_getf rfl (by assumption) (by rfl) ?_
              refine r_iload_5 rfl ?_
              refine r_invvP_1 rfl (by assumption) rfl rfl (by decide) (c_weightOf q v _) ?_
              refine r_aload_0 rfl ?_
              refine r_getf rfl (by assumption) (by rfl) ?_
              refine r_getf rfl (by assumption) (by rfl) ?_
              refine r_iload_1 rfl ?_
              refine r_iald rfl (a1) (by rfl) (hk6) (by first | decide | omega) ?_
              refine r_icgtF rfl (by rw [op]; exact B) ?_
              refine r_aload_0 rfl ?_
              refine r_getf rfl (by assumption) (by rfl) ?_
              refine r_iload_5 rfl ?_
              refine r_invvP_1 rfl (by assumption) rfl rfl (by decide) (c_weightOf q v _) ?_
              refine r_aload_0 rfl ?_
              refine r_getf rfl (by assumption) (by rfl) ?_
              refine r_iload_4 rfl ?_
              refine r_invvP_1 rfl (by assumption) rfl rfl (by decide) (c_weightOf q v _) ?_
              refine r_icleF rfl (C) ?_
              refine r_iload_5 rfl ?_
              refine r_istore_4 rfl ?_
              refine r_iinc_5 rfl ?_
              refine r_goto rfl ?_
              rw [nI_1]
              exact kont
            · rw [if_neg (fun z => C z.2.2)] at kont
              refine r_iload_5 rfl ?_
              refine r_iload_3 rfl ?_
              refine r_icgtF rfl (nI_le (by omega) (by omega)) ?_
              refine r_iload_5 rfl ?_
              refine r_iload_3 rfl ?_
              refine r_push rfl ?_
              refine r_ixor rfl ?_
              refine r_iand rfl ?_
              refine r_ifneF rfl (A) ?_
              refine r_aload_0 rfl ?_
              refine r_getf rfl (by assumption) (by rfl) ?_
              refine r_iload_5 rfl ?_
              refine r_invvP_1 rfl (by assumption) rfl rfl (by decide) (c_weightOf q v _) ?_
              refine r_aload_0 rfl ?_
              refine r_getf rfl (by assumption) (by rfl) ?_
              refine r_getf rfl (by assumption) (by rfl) ?_
              refine r_iload_1 rfl ?_
              refine r_iald rfl (a1) (by rfl) (hk6) (by first | decide | omega) ?_
              refine r_icgtF rfl (by rw [op]; exact B) ?_
              refine r_aload_0 rfl ?_
              refine r_getf rfl (by assumption) (by rfl) ?_
              refine r_iload_5 rfl ?_
              refine r_invvP_1 rfl (by assumption) rfl rfl (by decide) (c_weightOf q v _) ?_
              refine r_aload_0 rfl ?_
              refine r_getf rfl (by assumption) (by rfl) ?_
              refine r_iload_4 rfl ?_
              refine r_invvP_1 rfl (by assumption) rfl rfl (by decide) (c_weightOf q v _) ?_
              refine r_icleT rfl (Int32.not_lt.mp C) ?_
              refine r_iinc_5 rfl ?_
              refine r_goto rfl ?_
              rw [nI_1]
              exact kont
          · rw [if_neg (fun z => B z.2.1)] at kont
            refine r_iload_5 rfl ?_
            refine r_iload_3 rfl ?_
            refine r_icgtF rfl (nI_le (by omega) (by omega)) ?_
            refine r_iload_5 rfl ?_
            refine r_iload_3 rfl ?_
            refine r_push rfl ?_
            refine r_ixor rfl ?_
            refine r_iand rfl ?_
            refine r_ifneF rfl (A) ?_
            refine r_aload_0 rfl ?_
            refine r_getf rfl (by assumption) (by rfl) ?_
            refine r_iload_5 rfl ?_
            refine r_invvP_1 rfl (by assumption) rfl rfl (by decide) (c_weightOf q v _) ?_
            refine r_aload_0 rfl ?_
            refine r_getf rfl (by assumption) (by rfl) ?_
            refine r_getf rfl (by assumption) (by rfl) ?_
            refine r_iload_1 rfl ?_
            refine r_iald rfl (a1) (by rfl) (hk6) (by first | decide | omega) ?_
            refine r_icgtT rfl (by rw [op]; exact Int32.not_le.mp B) ?_
            refine r_iinc_5 rfl ?_
            refine r_goto rfl ?_
            rw [nI_1]
            exact kont
        · rw [if_neg (fun z => A z.1)] at kont
          refine r_iload_5 rfl ?_
          refine r_iload_3 rfl ?_
          refine r_icgtF rfl (nI_le (by omega) (by omega)) ?_
          refine r_iload_5 rfl ?_
          refine r_iload_3 rfl ?_
          refine r_push rfl ?_
          refine r_ixor rfl ?_
          refine r_iand rfl ?_
          refine r_ifneT rfl (A) ?_
          refine r_iinc_5 rfl ?_
          refine r_goto rfl ?_
          rw [nI_1]
          exact kont
      · by_cases D : much = 0
        · refine r_iload_5 rfl ?_
          refine r_iload_3 rfl ?_
          refine r_icgtT rfl (nI_lt (by omega) (by omega)) ?_
          refine r_iload_2 rfl ?_
          refine r_ifeqT rfl (D) ?_
          refine r_iload_4 rfl ?_
          refine r_iret rfl ?_
          refine Or.inl ⟨_, _, rfl, rfl, ?_, rfl⟩
          rw [if_pos D]
        · refine r_iload_5 rfl ?_
          refine r_iload_3 rfl ?_
          refine r_icgtT rfl (nI_lt (by omega) (by omega)) ?_
          refine r_iload_2 rfl ?_
          refine r_ifeqF rfl (D) ?_
          refine r_aload_0 rfl ?_
          refine r_getf rfl (by assumption) (by rfl) ?_
          refine r_iload_4 rfl ?_
          refine r_invvP_1 rfl (by assumption) rfl rfl (by decide) (c_weightOf q v _) ?_
          refine r_goto rfl ?_
          refine r_iret rfl ?_
          refine Or.inl ⟨_, _, rfl, rfl, ?_, rfl⟩
          rw [if_neg D]
    rw [Nat.zero_add, paN_1] at start
    exact start
theorem c_yPays (q : MM h y g m) (v : VR m) (p much : Int32) : Yc G 4 m_X6_pays [.ref y, .int p, .int much] h y g (qPays m p much) := by
  have o := q.1
  have m1 := q.thr (nI 1); have m3 := q.thr (nI 0)
  have o1 := m1.1; have o3 := m3.1; have r3 := m3.2
  have h10 := v.ss.2
  have l10 := pow10 h10
  refine wc_in mt_X6_pays rfl (L := [.ref y, .int p, .int much, am_un, am_un, am_un]) rfl ?_
  unfold qPays
  cases e1 : inF p 0 (m 3 - 1) with
  | false =>
    rw [if_pos rfl]
    refine r_aload_0 rfl ?_
    refine r_aload_0 rfl ?_
    refine r_iload_1 rfl ?_
    refine r_invvP_1 rfl (o) rfl rfl (by decide) (c_mIsPerson q p) ?_
    refine r_ifneF rfl (by rw [e1]; rfl) ?_
    refine r_push rfl ?_
    refine r_goto rfl ?_
    refine r_puti rfl (o) rfl ?_
    rw [mo_0]
    refine r_aload_0 rfl ?_
    refine r_getf rfl (o1) (by rfl) ?_
    refine r_ifleF rfl (by rw [upd_eq]; decide) ?_
    refine r_push rfl ?_
    refine r_iret rfl ?_
    rfl
  | true =>
    rw [if_neg (by decide)]
    have e6 := e1
    rw [v.pp.1] at e6
    obtain ⟨k, hk, rfl⟩ := inF_nI (by have := v.pp.2; omega) e6
    have hk6 : k < 6 := by have := v.pp.2; omega
    rw [nI_clamp (show k < 2 ^ 31 by omega)]
    refine r_aload_0 rfl ?_
    refine r_aload_0 rfl ?_
    refine r_iload_1 rfl ?_
    refine r_invvP_1 rfl (o) rfl rfl (by decide) (c_mIsPerson q _) ?_
    refine r_ifneT rfl (by rw [e1]; decide) ?_
    refine r_push rfl ?_
    refine r_puti rfl (o) rfl ?_
    rw [mo_0]
    refine r_aload_0 rfl ?_
    refine r_getf rfl (o3) (by rfl) ?_
    refine r_ifleT rfl (by rw [upd_eq]; decide) ?_
    refine r_aload_0 rfl ?_
    refine r_iload_1 rfl ?_
    refine r_push rfl ?_
    refine r_invvP_2 rfl (o3) rfl rfl (by decide) (c_mowed m3 v _ (k9 := 0) rfl (by decide)) ?_
    refine r_istore_3 rfl ?_
    refine r_push rfl ?_
    refine r_istore_4 rfl ?_
    refine r_push rfl ?_
    refine r_istore_5 rfl ?_
    change Wp G 4 mt_X6_pays 39 [.ref y, .int (nI k), .int much, .int (owedF m (nI k)), .int (paN m (owedF m (nI k)) (m (33 + 6 * k)) 0), .int (nI 0)] [] _ _
    refine wp_for (2 ^ nS m) (fun j => [.ref y, .int (nI k), .int much, .int (owedF m (nI k)), .int (paN m (owedF m (nI k)) (m (33 + 6 * k)) j), .int (nI j)]) (fun j hj kont => ?_) ?_
    · rw [paN] at kont
      have bd : nI j < (1 : Int32) <<< (m 4 &&& 31) := by rw [v.ss.1, sh1 _ (by omega)]; exact nI_lt hj (by omega)
      generalize owedF m (nI k) = AA at *
      by_cases A : nI j &&& (AA ^^^ (-1)) = 0
      · by_cases B : weightF m (nI j) ≤ m (33 + 6 * k)
        · by_cases C : weightF m (paN m AA (m (33 + 6 * k)) j) < weightF m (nI j)
          · rw [if_pos ⟨A, B, C⟩] at kont
            refine r_iload_5 rfl ?_
            refine r_push rfl ?_
            refine r_aload_0 rfl ?_
            refine r_getf rfl (o3) (by rfl) ?_
            refine r_push rfl ?_
            refine r_iald rfl (r3) (show (4 : Int32) = nI 4 from rfl) (by first | assumption | omega) (by first | decide | omega) ?_
            refine r_ishl rfl ?_
            refine r_icgeF rfl (bd) ?_
            refine r_iload_5 rfl ?_
            refine r_iload_3 rfl ?_
            refine r_push rfl ?_
            refine r_ixor rfl ?_
            refine r_iand rfl ?_
            refine r_ifneF rfl (A) ?_
            refine r_aload_0 rfl ?_
            refine r_iload_5 rfl ?_
            refine r_invvP_1 rfl (o3) rfl rfl (by decide) (c_mweightOf m3 v _) ?_
            refine r_aload_0 rfl ?_
            refine r_iload_1 rfl ?_
            refine r_push rfl ?_
            refine r_invvP_2 rfl (o3) rfl rfl (by decide) (c_of0 m3 (by omega)) ?_
            refine r_icgtF rfl (B) ?_
            refine r_aload_0 rfl ?_
            refine r_iload_5 rfl ?_
            refine r_invvP_1 rfl (o3) rfl rfl (by decide) (c_mweightOf m3 v _) ?_
            refine r_aload_0 rfl ?_
            refine r_iload_4 rfl ?_
            refine r_invvP_1 rfl (o3) rfl rfl (by decide) (c_mweightOf m3 v _) ?_
            refine r_icleF rfl (C) ?_
            refine r_iload_5 rfl ?_
            refine r_istore_4 rfl ?_
            refine r_iinc_5 rfl ?_
            refine r_goto rfl ?_
            rw [nI_1]
            exact kont
          · rw [if_neg (fun z => C z.2.2)] at kont
            refine r_iload_5 rfl ?_
            refine r_push rfl ?_
            refine r_aload_0 rfl ?_
            refine r_getf rfl (o3) (by rfl) ?_
            refine r_push rfl ?_
            refine r_iald rfl (r3) (show (4 : Int32) = nI 4 from rfl) (by first | assumption | omega) (by first | decide | omega) ?_
            refine r_ishl rfl ?_
            refine r_icgeF rfl (bd) ?_
            refine r_iload_5 rfl ?_
            refine r_iload_3 rfl ?_
            refine r_push rfl ?_
            refine r_ixor rfl ?_
            refine r_iand rfl ?_
            refine r_ifneF rfl (A) ?_
            refine r_aload_0 rfl ?_
            refine r_iload_5 rfl ?_
            refine r_invvP_1 rfl (o3) rfl rfl (by decide) (c_mweightOf m3 v _) ?_
            refine r_aload_0 rfl ?_
            refine r_iload_1 rfl ?_
            refine r_push rfl ?_
            refine r_invvP_2 rfl (o3) rfl rfl (by decide) (c_of0 m3 (by omega)) ?_
            refine r_icgtF rfl (B) ?_
            refine r_aload_0 rfl ?_
            refine r_iload_5 rfl ?_
            refine r_invvP_1 rfl (o3) rfl rfl (by decide) (c_mweightOf m3 v _) ?_
            refine r_aload_0 rfl ?_
            refine r_iload_4 rfl ?_
            refine r_invvP_1 rfl (o3) rfl rfl (by decide) (c_mweightOf m3 v _) ?_
            refine r_icleT rfl (Int32.not_lt.mp C) ?_
            refine r_iinc_5 rfl ?_
            refine r_goto rfl ?_
            rw [nI_1]
            exact kont
        · rw [if_neg (fun z => B z.2.1)] at kont
          refine r_iload_5 rfl ?_
          refine r_push rfl ?_
          refine r_aload_0 rfl ?_
          refine r_getf rfl (o3) (by rfl) ?_
          refine r_push rfl ?_
          refine r_iald rfl (r3) (show (4 : Int32) = nI 4 from rfl) (by first | assumption | omega) (by first | decide | omega) ?_
          refine r_ishl rfl ?_
          refine r_icgeF rfl (bd) ?_
          refine r_iload_5 rfl ?_
          refine r_iload_3 rfl ?_
          refine r_push rfl ?_
          refine r_ixor rfl ?_
          refine r_iand rfl ?_
          refine r_ifneF rfl (A) ?_
          refine r_aload_0 rfl ?_
          refine r_iload_5 rfl ?_
          refine r_invvP_1 rfl (o3) rfl rfl (by decide) (c_mweightOf m3 v _) ?_
          refine r_aload_0 rfl ?_
          refine r_iload_1 rfl ?_
          refine r_push rfl ?_
          refine r_invvP_2 rfl (o3) rfl rfl (by decide) (c_of0 m3 (by omega)) ?_
          refine r_icgtT rfl (Int32.not_le.mp B) ?_
          refine r_iinc_5 rfl ?_
          refine r_goto rfl ?_
          rw [nI_1]
          exact kont
      · rw [if_neg (fun z => A z.1)] at kont
        refine r_iload_5 rfl ?_
        refine r_push rfl ?_
        refine r_aload_0 rfl ?_
        refine r_getf rfl (o3) (by rfl) ?_
        refine r_push rfl ?_
        refine r_iald rfl (r3) (show (4 : Int32) = nI 4 from rfl) (by first | assumption | omega) (by first | decide | omega) ?_
        refine r_ishl rfl ?_
        refine r_icgeF rfl (bd) ?_
        refine r_iload_5 rfl ?_
        refine r_iload_3 rfl ?_
        refine r_push rfl ?_
        refine r_ixor rfl ?_
        refine r_iand rfl ?_
        refine r_ifneT rfl (A) ?_
        refine r_iinc_5 rfl ?_
        refine r_goto rfl ?_
        rw [nI_1]
        exact kont
    · have bd : (1 : Int32) <<< (m 4 &&& 31) ≤ nI (2 ^ nS m) := by rw [v.ss.1, sh1 _ (by omega)]; exact Int32.le_refl _
      by_cases D : much = 0
      · refine r_iload_5 rfl ?_
        refine r_push rfl ?_
        refine r_aload_0 rfl ?_
        refine r_getf rfl (o3) (by rfl) ?_
        refine r_push rfl ?_
        refine r_iald rfl (r3) (show (4 : Int32) = nI 4 from rfl) (by first | assumption | omega) (by first | decide | omega) ?_
        refine r_ishl rfl ?_
        refine r_icgeT rfl (bd) ?_
        refine r_iload_2 rfl ?_
        refine r_ifeqT rfl (D) ?_
        refine r_iload_4 rfl ?_
        refine r_iret rfl ?_
        rw [if_pos D]
        rfl
      · refine r_iload_5 rfl ?_
        refine r_push rfl ?_
        refine r_aload_0 rfl ?_
        refine r_getf rfl (o3) (by rfl) ?_
        refine r_push rfl ?_
        refine r_iald rfl (r3) (show (4 : Int32) = nI 4 from rfl) (by first | assumption | omega) (by first | decide | omega) ?_
        refine r_ishl rfl ?_
        refine r_icgeT rfl (bd) ?_
        refine r_iload_2 rfl ?_
        refine r_ifeqF rfl (D) ?_
        refine r_aload_0 rfl ?_
        refine r_iload_4 rfl ?_
        refine r_invvP_1 rfl (o3) rfl rfl (by decide) (c_mweightOf m3 v _) ?_
        refine r_goto rfl ?_
        refine r_iret rfl ?_
        rw [if_neg D]
        rfl
end
