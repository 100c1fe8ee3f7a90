/-! NUMBERS: weights, loads, ways as numbers; way on both sides -/
set_option maxRecDepth 100000
theorem nI_divN {a c : Nat} (ha : a < 2 ^ 31) (hc : c < 2 ^ 31) : nI a / nI c = nI (a / c) := by
  apply Int32.toInt_inj.mp
  have hd : a / c ≤ a := Nat.div_le_self _ _
  rw [Int32.toInt_div_of_ne_left _ _ (fun z => by
    have := congrArg Int32.toInt z
    rw [nI_toInt ha] at this
    exact absurd this (by rw [show (Int32.minValue).toInt = -2147483648 from rfl]; omega)), nI_toInt ha, nI_toInt hc, nI_toInt (by omega)]
  rfl
def smN (f : Nat → Nat) : Nat → Nat
  | 0 => 0
  | n + 1 => smN f n + f n
theorem smF_N {g : Nat → Int32} {f : Nat → Nat} : ∀ {n : Nat}, (∀ k, k < n → g k = nI (f k)) → smF g n = nI (smN f n)
  | 0, _ => rfl
  | n + 1, h => by rw [smF, smN, smF_N (fun k hk => h k (by omega)), h n (by omega), nI_add]
theorem smN_le {f : Nat → Nat} {c : Nat} : ∀ {n : Nat}, (∀ k, k < n → f k ≤ c) → smN f n ≤ c * n
  | 0, _ => Nat.zero_le _
  | n + 1, h => by
    have := smN_le (f := f) (c := c) (n := n) (fun k hk => h k (by omega))
    have := h n (by omega)
    rw [smN, Nat.mul_succ]
    omega
def wtN (m : Nat → Int32) (s : Nat) : Nat := (m (71 + 6 * s)).toNatClampNeg
def weightN (m : Nat → Int32) (S : Int32) : Nat := smN (fun s => if isF S (nI s) = true then wtN m s else 0) (nS m)
def loadN (m : Nat → Int32) (p : Nat) : Nat := weightN m (wornF m (nI p))
theorem isB_n {x : Int32} {n : Nat} (h : n < 2 ^ 31) (q : isB x n) : x = nI x.toNatClampNeg ∧ x.toNatClampNeg < n := by
  obtain ⟨k, hk, rfl⟩ := q
  rw [nI_clamp (by omega)]
  exact ⟨rfl, hk⟩
section
variable {m b : Nat → Int32}
theorem wtN_ok (v : VR m) {s : Nat} (hs : s < nS m) : m (71 + 6 * s) = nI (wtN m s) ∧ 1 ≤ wtN m s ∧ wtN m s ≤ 40 := by
  obtain ⟨-, -, ⟨q, h0⟩, -⟩ := v.st s hs
  obtain ⟨e, h1⟩ := isB_n (by decide) q
  refine ⟨e, ?_, by unfold wtN; omega⟩
  unfold wtN
  rcases Nat.eq_zero_or_pos (m (71 + 6 * s)).toNatClampNeg with z | z
  · rw [z] at e; exact absurd e h0
  · exact z
theorem weightN_ok (v : VR m) (S : Int32) : weightF m S = nI (weightN m S) ∧ weightN m S ≤ 400 := by
  refine ⟨smF_N fun k hk => ?_, ?_⟩
  · split
    · exact (wtN_ok v hk).1
    · rfl
  · have := smN_le (f := fun s => if isF S (nI s) = true then wtN m s else 0) (c := 40) (n := nS m) (fun k hk => by
      show (if isF S (nI k) = true then wtN m k else 0) ≤ 40
      split
      · exact (wtN_ok v hk).2.2
      · exact Nat.zero_le _)
    have := v.ss.2
    unfold weightN
    omega
theorem loadN_ok (v : VR m) (p : Nat) : loadF m (nI p) = nI (loadN m p) ∧ loadN m p ≤ 400 := weightN_ok v _
/-- where a person is -/
def atN (m : Nat → Int32) (p : Nat) : Nat := (m (35 + 6 * p)).toNatClampNeg
theorem atN_ok (v : VR m) {p : Nat} (hp : p < nP m) : m (35 + 6 * p) = nI (atN m p) ∧ atN m p < 12 := isB_n (by decide) (v.pe p hp).1
def slN (m : Nat → Int32) (q : Nat) : Nat := (m (9 + q)).toNatClampNeg
theorem slN_ok (v : VR m) {q : Nat} (hq : q < 12) : m (9 + q) = nI (slN m q) ∧ slN m q < 4 := isB_n (by decide) (v.pl q hq).1
/-- hours of a way: so many steps yet, from a place -/
def wyN (m : Nat → Int32) (ld t : Nat) : Nat → Nat → Nat → Option Nat
  | 0, _, s => some s
  | n + 1, a, s => if max a (if a < t then a + 1 else a - 1) = 6 ∧ m 6 < nI ld then none else wyN m ld t n (if a < t then a + 1 else a - 1) (s + (1 + ld / 10 * slN m (if a < t then a + 1 else a - 1)))
def wayN (m : Nat → Int32) (p t : Nat) : Option Nat := wyN m (loadN m p) t (if atN m p < t then t - atN m p else atN m p - t) (atN m p) 0
theorem wyN_le {ld t : Nat} (hl : ld ≤ 400) (v : VR m) (ht : t < 12) : ∀ (n a s w : Nat), (a + n = t ∨ a = t + n) → a < 12 → wyN m ld t n a s = some w → w ≤ s + 121 * n
  | 0, a, s, w, _, _, e => by cases e; omega
  | n + 1, a, s, w, h, ha, e => by
    rw [wyN] at e
    generalize hq : (if a < t then a + 1 else a - 1) = q at e
    have hq12 : q < 12 := by rw [← hq]; split <;> omega
    have hqt : q + n = t ∨ q = t + n := by rw [← hq]; split <;> omega
    split at e
    · cases e
    · have := wyN_le hl v ht n q _ w hqt hq12 e
      have h3 := (slN_ok v hq12).2
      have : ld / 10 * slN m q ≤ 40 * 3 := Nat.mul_le_mul (by omega) (by omega)
      omega
theorem wayN_le (v : VR m) {p t w : Nat} (hp : p < nP m) (ht : t < 12) (e : wayN m p t = some w) : w ≤ 1331 := by
  have ha := (atN_ok v hp).2
  have := wyN_le (loadN_ok v p).2 v ht _ _ 0 w (by split <;> omega) ha e
  have : (if atN m p < t then t - atN m p else atN m p - t) ≤ 11 := by split <;> omega
  omega
def farV : Option Nat → Int32
  | none => 1000000
  | some n => nI n
def nonV : Option Nat → Int32
  | none => -1
  | some n => nI n
theorem maxF_nI {a c : Nat} (ha : a < 2 ^ 31) (hc : c < 2 ^ 31) : maxF (nI a) (nI c) = nI (max a c) := by
  by_cases h : c ≤ a
  · rw [maxF_g (nI_le h ha), Nat.max_eq_left h]
  · rw [maxF_l (nI_le (by omega) hc), Nat.max_eq_right (by omega)]
theorem minF_nI {a c : Nat} (ha : a < 2 ^ 31) (hc : c < 2 ^ 31) : minF (nI a) (nI c) = nI (min a c) := by
  by_cases h : c ≤ a
  · rw [minF_g (nI_le h ha), Nat.min_eq_right h]
  · rw [minF_l (nI_le (by omega) hc), Nat.min_eq_left (by omega)]
end
section
variable {G : am_G} {h : am_H} {x y : Nat} {hi : Bool} {m b g : Nat → Int32} {l : Value}
theorem c_xWayOf (o : h.1 x = some (.inr (0, xobj x hi))) (q : WA h (x + 1) m b l) (v : VR m) (yb : BY b m) {p t : Nat} (hp : p < nP m) (ht : t < 12) : Vc G 3 m_X1_wayOf [.ref x, .int (nI p), .int (nI t)] h (.int (farV (wayN m p t))) := by
  have o1 := wa_o q; have o2 := wa_at q; have o3 := wa_sl q
  obtain ⟨el, hl⟩ := loadN_ok v p
  obtain ⟨ea, ha⟩ := atN_ok v hp
  have hp6 : p < 6 := by have := v.pp.2; omega
  have loop : ∀ (up : Bool) (n a s : Nat), (if up = true then a + n = t else a = t + n) → a < 12 → Wp G 3 mt_X1_wayOf 43 [.ref x, .int (nI p), .int (nI t), .int (nI (loadN m p)), .int (if up = true then 1 else -1), .int (nI s), .int (nI a)] [] h (fun R => R = .inl (some (.int (farV (wyN m (loadN m p) t n a s))), h)) := by
    intro up n
    induction n with
    | zero =>
      intro a s hat ha
      have : a = t := by split at hat <;> omega
      subst this
      refine r_iload_6 rfl ?_
      refine r_iload_2 rfl ?_
      refine r_iceqT rfl (rfl) ?_
      refine r_iload_5 rfl ?_
      refine r_iret rfl ?_
      rfl
    | succ n ih =>
      intro a s hat ha
      have hne : a ≠ t := by split at hat <;> omega
      have hq : nI a + (if up = true then 1 else -1) = nI (if a < t then a + 1 else a - 1) := by
        cases up with
        | true => rw [if_pos rfl] at hat ⊢; rw [if_pos (by omega)]; exact nI_1 a
        | false => rw [if_neg (by decide)] at hat ⊢; rw [if_neg (by omega)]; exact dec1 (by omega) rfl
      rw [wyN]
      have hqt : if up = true then (if a < t then a + 1 else a - 1) + n = t else (if a < t then a + 1 else a - 1) = t + n := by
        cases up with
        | true => rw [if_pos rfl] at hat ⊢; rw [if_pos (by omega)]; omega
        | false => rw [if_neg (by decide)] at hat ⊢; rw [if_neg (by omega)]; omega
      have hq12 : (if a < t then a + 1 else a - 1) < 12 := by split <;> omega
      generalize (if a < t then a + 1 else a - 1) = c at *
      obtain ⟨es, hs⟩ := slN_ok v hq12
      generalize (if up = true then (1 : Int32) else -1) = dv at *
      have mv : ¬ (max a c = 6 ∧ m 6 < nI (loadN m p)) → Wp G 3 mt_X1_wayOf 79 [.ref x, .int (nI p), .int (nI t), .int (nI (loadN m p)), .int dv, .int (nI s), .int (nI a)] [] h (fun R => R = .inl (some (.int (farV (if max a c = 6 ∧ m 6 < nI (loadN m p) then none else wyN m (loadN m p) t n c (s + (1 + loadN m p / 10 * slN m c))))), h)) := by
        intro hz
        rw [if_neg hz]
        refine r_iload_5 rfl ?_
        refine r_push rfl ?_
        refine r_iload_3 rfl ?_
        refine r_push rfl ?_
        refine r_idiv rfl (by decide) ?_
        refine r_aload_0 rfl ?_
        refine r_getf rfl o rfl ?_
        refine r_getf rfl o1 rfl ?_
        refine r_iload_6 rfl ?_
        refine r_iload_4 rfl ?_
        refine r_iadd rfl ?_
        rw [hq]
        refine r_iald rfl o3 rfl hq12 (by decide) ?_
        rw [cl_in hq12, es, show (10 : Int32) = nI 10 from rfl, nI_divN (by omega) (by decide)]
        refine r_imul rfl ?_
        rw [nI_mul]
        refine r_iadd rfl ?_
        rw [show (1 : Int32) = nI 1 from rfl, nI_add]
        refine r_iadd rfl ?_
        rw [nI_add]
        refine r_istore_5 rfl ?_
        refine r_iload_6 rfl ?_
        refine r_iload_4 rfl ?_
        refine r_iadd rfl ?_
        rw [hq]
        refine r_istore_6 rfl ?_
        refine r_goto rfl ?_
        exact ih c _ hqt hq12
      refine r_iload_6 rfl ?_
      refine r_iload_2 rfl ?_
      refine r_iceqF rfl (fun z => hne (nI_inj (by omega) (by omega) z)) ?_
      refine r_iload_6 rfl ?_
      refine r_iload_6 rfl ?_
      refine r_iload_4 rfl ?_
      refine r_iadd rfl ?_
      rw [hq]
      refine r_invP_2 rfl rfl (by decide) (c_max _ _) ?_
      rw [maxF_nI (by omega) (by omega)]
      refine r_push rfl ?_
      refine r_icne rfl (fun c6 => ?_) (fun c6 => ?_)
      · exact mv (fun z => c6 (by rw [z.1]; rfl))
      · have e6 : max a c = 6 := nI_inj (by omega) (by decide) c6
        refine r_iload_3 rfl ?_
        refine r_aload_0 rfl ?_
        refine r_getf rfl o rfl ?_
        refine r_getf rfl o1 rfl ?_
        refine r_icle rfl (fun c7 => ?_) (fun c7 => ?_)
        · exact mv (fun z => Int32.not_lt.mpr c7 z.2)
        · rw [if_pos ⟨e6, c7⟩]
          refine r_push rfl ?_
          refine r_iret rfl ?_
          rfl
  refine wc_in mt_X1_wayOf rfl (L := [.ref x, .int (nI p), .int (nI t), am_un, am_un, am_un, am_un]) rfl ?_
  refine r_aload_0 rfl ?_
  refine r_getf rfl o rfl ?_
  refine r_iload_1 rfl ?_
  refine r_invvP_1 rfl o1 rfl rfl (by decide) (c_load q v yb _) ?_
  rw [el]
  refine r_istore_3 rfl ?_
  refine r_iload_2 rfl ?_
  refine r_aload_0 rfl ?_
  refine r_getf rfl o rfl ?_
  refine r_getf rfl o1 rfl ?_
  refine r_iload_1 rfl ?_
  refine r_iald rfl o2 rfl hp6 (by decide) ?_
  rw [cl_in hp6, ea]
  have fin : ∀ up : Bool, (if up = true then atN m p < t else t ≤ atN m p) → Wp G 3 mt_X1_wayOf 27 [.ref x, .int (nI p), .int (nI t), .int (nI (loadN m p)), am_un, am_un, am_un] [.int (if up = true then 1 else -1)] h (fun R => R = .inl (some (.int (farV (wayN m p t))), h)) := by
    intro up hup
    refine r_istore_4 rfl ?_
    refine r_push rfl ?_
    refine r_istore_5 rfl ?_
    refine r_aload_0 rfl ?_
    refine r_getf rfl o rfl ?_
    refine r_getf rfl o1 rfl ?_
    refine r_iload_1 rfl ?_
    refine r_iald rfl o2 rfl hp6 (by decide) ?_
    rw [cl_in hp6, ea]
    refine r_istore_6 rfl ?_
    refine loop up _ (atN m p) 0 ?_ ha
    cases up with
    | true => rw [if_pos rfl] at hup ⊢; rw [if_pos hup]; omega
    | false => rw [if_neg (by decide)] at hup ⊢; rw [if_neg (by omega)]; omega
  refine r_icle rfl (fun c => ?_) (fun c => ?_)
  · refine r_push rfl ?_
    exact fin false ((nI_leI (by omega) (by omega)).mp c)
  · refine r_push rfl ?_
    refine r_goto rfl ?_
    exact fin true ((nI_ltI (by omega) (by omega)).mp c)
theorem c_yWayOf (q : MM h y g m) (v : VR m) {p t : Nat} (hp : p < nP m) (ht : t < 12) : Vc G 3 m_X6_wayOf [.ref y, .int (nI p), .int (nI t)] h (.int (nonV (wayN m p t))) := by
  have o := q.1; have o1 := q.2
  obtain ⟨el, hl⟩ := loadN_ok v p
  obtain ⟨ea, ha⟩ := atN_ok v hp
  have hp6 : p < 6 := by have := v.pp.2; omega
  have loop : ∀ (n a s : Nat) (x6 : Value), (a + n = t ∨ a = t + n) → a < 12 → Wp G 3 mt_X6_wayOf 17 [.ref y, .int (nI p), .int (nI t), .int (nI (loadN m p)), .int (nI s), .int (nI a), x6] [] h (fun R => R = .inl (some (.int (nonV (wyN m (loadN m p) t n a s))), h)) := by
    intro n
    induction n with
    | zero =>
      intro a s x6 hat ha
      have : a = t := by omega
      subst this
      refine r_iload_5 rfl ?_
      refine r_iload_2 rfl ?_
      refine r_iceqT rfl (rfl) ?_
      refine r_iload_4 rfl ?_
      refine r_iret rfl ?_
      rfl
    | succ n ih =>
      intro a s x6 hat ha
      have hne : a ≠ t := by omega
      rw [wyN]
      have go : ∀ c, c = (if a < t then a + 1 else a - 1) → Wp G 3 mt_X6_wayOf 40 [.ref y, .int (nI p), .int (nI t), .int (nI (loadN m p)), .int (nI s), .int (nI a), x6] [.int (nI c)] h (fun R => R = .inl (some (.int (nonV (if max a (if a < t then a + 1 else a - 1) = 6 ∧ m 6 < nI (loadN m p) then none else wyN m (loadN m p) t n (if a < t then a + 1 else a - 1) (s + (1 + loadN m p / 10 * slN m (if a < t then a + 1 else a - 1)))))), h)) := by
        intro c hc
        rw [← hc]
        have hq12 : c < 12 := by rw [hc]; split <;> omega
        have hqt : c + n = t ∨ c = t + n := by rw [hc]; split <;> omega
        have hac : a + c = 11 ↔ max a c = 6 := by
          have : c = a + 1 ∨ a = c + 1 := by rw [hc]; split <;> omega
          omega
        clear hc
        obtain ⟨es, hs⟩ := slN_ok v hq12
        refine r_istore_6 rfl ?_
        refine r_aload_0 rfl ?_
        refine r_iload_3 rfl ?_
        refine r_iload_5 rfl ?_
        refine r_iload_6 rfl ?_
        refine r_invvP_3 rfl o rfl rfl (by decide) (c_mmayGo q _ _ _) ?_
        rw [nI_add]
        have e11 : nI (a + c) = 11 ↔ max a c = 6 := ⟨fun z => hac.mp (nI_inj (by omega) (by decide) z), fun z => by rw [hac.mpr z]; rfl⟩
        by_cases cz : max a c = 6 ∧ m 6 < nI (loadN m p)
        · rw [if_pos cz, decide_eq_false (fun z => z (e11.mpr cz.1)), decide_eq_false (Int32.not_le.mpr cz.2)]
          refine r_ifneF rfl rfl ?_
          refine r_push rfl ?_
          refine r_iret rfl ?_
          rfl
        · rw [if_neg cz]
          refine r_ifneT rfl ?_ ?_
          · refine bI_n0.mpr ?_
            rw [Bool.or_eq_true, decide_eq_true_iff, decide_eq_true_iff]
            by_cases z : max a c = 6
            · exact Or.inr (Int32.not_lt.mp (fun w => cz ⟨z, w⟩))
            · exact Or.inl (fun w => z (e11.mp w))
          · refine r_iload_4 rfl ?_
            refine r_push rfl ?_
            refine r_iload_3 rfl ?_
            refine r_push rfl ?_
            refine r_idiv rfl (by decide) ?_
            refine r_aload_0 rfl ?_
            refine r_getf rfl o rfl ?_
            refine r_push rfl ?_
            refine r_iload_6 rfl ?_
            refine r_iadd rfl ?_
            refine r_iald rfl o1 (nI_add 9 c) (by omega) (by decide) ?_
            rw [es, show (10 : Int32) = nI 10 from rfl, nI_divN (by omega) (by decide)]
            refine r_imul rfl ?_
            rw [nI_mul]
            refine r_iadd rfl ?_
            rw [show (1 : Int32) = nI 1 from rfl, nI_add]
            refine r_iadd rfl ?_
            rw [nI_add]
            refine r_istore_4 rfl ?_
            refine r_iload_6 rfl ?_
            refine r_istore_5 rfl ?_
            refine r_goto rfl ?_
            exact ih c _ _ hqt hq12
      refine r_iload_5 rfl ?_
      refine r_iload_2 rfl ?_
      refine r_iceqF rfl (fun z => hne (nI_inj (by omega) (by omega) z)) ?_
      refine r_iload_5 rfl ?_
      refine r_iload_2 rfl ?_
      refine r_icge rfl (fun c => ?_) (fun c => ?_)
      · have c1 : t ≤ a := (nI_leI (by omega) (by omega)).mp c
        refine r_iload_5 rfl ?_
        refine r_push rfl ?_
        refine r_isub rfl ?_
        rw [show (1 : Int32) = nI 1 from rfl, nI_sub (by omega)]
        exact go _ (by rw [if_neg (by omega)])
      · have c1 : a < t := (nI_ltI (by omega) (by omega)).mp c
        refine r_iload_5 rfl ?_
        refine r_push rfl ?_
        refine r_iadd rfl ?_
        rw [nI_1]
        refine r_goto rfl ?_
        exact go _ (by rw [if_pos c1])
  refine wc_in mt_X6_wayOf rfl (L := [.ref y, .int (nI p), .int (nI t), am_un, am_un, am_un, am_un]) rfl ?_
  refine r_aload_0 rfl ?_
  refine r_iload_1 rfl ?_
  refine r_invvP_1 rfl o rfl rfl (by decide) (c_mload q v _) ?_
  rw [el]
  refine r_istore_3 rfl ?_
  refine r_push rfl ?_
  refine r_istore_4 rfl ?_
  refine r_aload_0 rfl ?_
  refine r_iload_1 rfl ?_
  refine r_push rfl ?_
  refine r_invvP_2 rfl o rfl rfl (by decide) (c_of2 q (by omega)) ?_
  rw [ea]
  refine r_istore_5 rfl ?_
  exact loop _ (atN m p) 0 _ (by split <;> omega) ha
end
