/-! SCALES: bytes, which side sinks -/
set_option maxRecDepth 100000
def lessN (m : Nat → Int32) (s : Nat) : Nat := wtN m s - wtN m s / 2
/-- a stone that is hollow, or none -/
def hoI : Option Nat → Int32
  | none => -1
  | some s => nI s
def HOK (m : Nat → Int32) : Option Nat → Prop
  | none => True
  | some s => s < nS m ∧ m (72 + 6 * s) = 0
def offN (m : Nat → Int32) (p : Nat) : Option Nat → Nat
  | none => 0
  | some s => if m (73 + 6 * s) = nI p then lessN m s else 0
def lbN (m : Nat → Int32) (p : Nat) (o : Option Nat) : Nat := loadN m p - offN m p o
def skN (m : Nat → Int32) (a c : Nat) (o : Option Nat) : Nat := if lbN m c o < lbN m a o then 0 else if lbN m c o = lbN m a o then 1 else 2
theorem smN_ge {f : Nat → Nat} : ∀ {n k : Nat}, k < n → f k ≤ smN f n
  | n + 1, k, h => by
    rw [smN]
    by_cases c : k = n
    · subst c; omega
    · have := smN_ge (f := f) (n := n) (k := k) (by omega); omega
theorem offN_le {m : Nat → Int32} (v : VR m) {p : Nat} {o : Option Nat} (h : HOK m o) : offN m p o ≤ loadN m p := by
  cases o with
  | none => exact Nat.zero_le _
  | some s =>
    unfold offN
    by_cases c : m (73 + 6 * s) = nI p
    · simp only [if_pos c]
      have h10 := v.ss.2
      have h1 := h.1
      have := smN_ge (f := fun s => if isF (wornF m (nI p)) (nI s) = true then wtN m s else 0) h.1
      have e : isF (wornF m (nI p)) (nI s) = true := by
        unfold wornF
        rw [isF_bsF (by omega) (by omega), decide_eq_true h.1, decide_eq_true h.2, decide_eq_true c]; rfl
      simp only [if_pos e] at this
      unfold loadN weightN lessN
      omega
    · simp only [if_neg c]; exact Nat.zero_le _
theorem nI_sb : ∀ u, u < 128 → sbI (nI u) = nI u := by decide +kernel
theorem nI_sb2 : ∀ P, P ≤ 6 → ∀ u, u < 256 → inF (sbI (nI u)) 0 (nI P - 1) = decide (u < P) := by decide +kernel
theorem nI_sb3 : ∀ u, u < 256 → inF (sbI (nI u)) 0 2 = decide (u < 3) := by decide +kernel
theorem half_n {i : Nat} (h : i ≤ 40) : nI i - nI i / 2 = nI (i - i / 2) := by
  rw [show (2 : Int32) = nI 2 from rfl, nI_divN (by omega) (by decide), nI_sub (by omega)]
theorem ng_self (l : Int32) : l + -l = 0 := by rw [← Int32.sub_eq_add_neg, Int32.sub_self]
theorem sub3 (a l b : Int32) : a + l - b - l = a - b := by
  rw [Int32.sub_eq_add_neg, Int32.sub_eq_add_neg, Int32.sub_eq_add_neg]
  calc a + l + -b + -l = (a + -b) + (l + -l) := by ac_rfl
    _ = a + -b := by rw [ng_self, Int32.add_zero]
theorem sub4 (a l b : Int32) : a - (b + l) - -l = a - b := by
  rw [Int32.sub_eq_add_neg, Int32.sub_eq_add_neg, Int32.sub_eq_add_neg, Int32.neg_neg, Int32.neg_add, Int32.sub_eq_add_neg]
  calc a + (-b + -l) + l = (a + -b) + (l + -l) := by ac_rfl
    _ = a + -b := by rw [ng_self, Int32.add_zero]
theorem sub5 (a k : Int32) : a - (k + a) = -k := by
  rw [Int32.sub_eq_add_neg, Int32.neg_add, Int32.sub_eq_add_neg]
  calc a + (-k + -a) = -k + (a + -a) := by ac_rfl
    _ = -k := by rw [ng_self, Int32.add_zero]
theorem df_pos {a c : Nat} (ha : a ≤ 1000) (hc : c ≤ 1000) : 0 < nI a - nI c ↔ c < a := by
  by_cases z : c ≤ a
  · rw [nI_sub z, show (0 : Int32) = nI 0 from rfl, nI_ltI (by decide) (by omega)]; omega
  · constructor
    · intro q
      exfalso
      have e : nI a - nI c = -nI (c - a) := by
        have : nI c = nI (c - a) + nI a := by rw [nI_add]; congr 1; omega
        rw [this, sub5]
      rw [e] at q
      have : ∀ k, k ≤ 1000 → ¬ 0 < -nI k := by decide +kernel
      exact this _ (by omega) q
    · intro q; omega
theorem df_0 {a c : Nat} (ha : a ≤ 1000) (hc : c ≤ 1000) : nI a - nI c = 0 ↔ a = c := by
  constructor
  · intro q
    have : nI a = nI c := by
      have := congrArg (· + nI c) q
      simp only [Int32.sub_add_cancel, Int32.zero_add] at this
      exact this
    exact nI_inj (by omega) (by omega) this
  · rintro rfl; exact Int32.sub_self _
section
variable {G : am_G} {h : am_H} {x y : Nat} {hi : Bool} {m b g : Nat → Int32} {l : Value}
def cmqF (a c : Int32) : Int32 := if a < c then -1 else if a = c then 0 else 1
theorem c_cmq (a c : Int32) : Vc G 0 m_J16_compare [.int a, .int c] h (.int (cmqF a c)) := by
  refine wc_in mt_J16_compare rfl (L := [.int a, .int c]) rfl ?_
  unfold cmqF
  by_cases c1 : a < c
  · rw [if_pos c1]
    refine r_iload_0 rfl ?_
    refine r_iload_1 rfl ?_
    refine r_icgeF rfl (c1) ?_
    refine r_push rfl ?_
    refine r_goto rfl ?_
    refine r_iret rfl ?_
    rfl
  · rw [if_neg c1]
    by_cases c2 : a = c
    · rw [if_pos c2]
      refine r_iload_0 rfl ?_
      refine r_iload_1 rfl ?_
      refine r_icgeT rfl (Int32.not_lt.mp c1) ?_
      refine r_iload_0 rfl ?_
      refine r_iload_1 rfl ?_
      refine r_icneF rfl (c2) ?_
      refine r_push rfl ?_
      refine r_goto rfl ?_
      refine r_iret rfl ?_
      rfl
    · rw [if_neg c2]
      refine r_iload_0 rfl ?_
      refine r_iload_1 rfl ?_
      refine r_icgeT rfl (Int32.not_lt.mp c1) ?_
      refine r_iload_0 rfl ?_
      refine r_iload_1 rfl ?_
      refine r_icneT rfl (c2) ?_
      refine r_push rfl ?_
      refine r_iret rfl ?_
      rfl
theorem c_xLoadBy (o : h.1 x = some (.inr (0, xobj x hi))) (q : WA h (x + 1) m b l) (v : VR m) (yb : BY b m) {p : Nat} {ho : Option Nat} (hk : HOK m ho) : Vc G 3 m_X1_loadBy [.ref x, .int (nI p), .int (hoI ho)] h (.int (nI (lbN m p ho))) := by
  have o0 := wa_o q; have oW := wa_we q
  have hS := v.ss.2
  have off := offN_le v (p := p) hk
  have eW : weightF m (wornF m (nI p)) = nI (loadN m p) := (loadN_ok v p).1
  have er : nI (loadN m p) - nI (offN m p ho) = nI (lbN m p ho) := nI_sub off
  refine wc_in mt_X1_loadBy rfl (L := [.ref x, .int (nI p), .int (hoI ho), am_un, am_un]) rfl ?_
  cases ho with
  | none =>
    refine r_aload_0 rfl ?_
    refine r_getf rfl (by assumption) (by rfl) ?_
    refine r_iload_1 rfl ?_
    refine r_invvP_1 rfl (o0) rfl rfl (by decide) (c_wornBy q v yb _) ?_
    refine r_istore_3 rfl ?_
    refine r_iload_2 rfl ?_
    refine r_push rfl ?_
    refine r_iceqT rfl (rfl) ?_
    refine r_push rfl ?_
    refine r_istore_4 rfl ?_
    refine r_aload_0 rfl ?_
    refine r_getf rfl (by assumption) (by rfl) ?_
    refine r_iload_3 rfl ?_
    refine r_invvP_1 rfl (o0) rfl rfl (by decide) (c_weightOf q v _) ?_
    rw [eW]
    refine r_iload_4 rfl ?_
    refine r_isub rfl ?_
    refine r_iret rfl ?_
    rw [show (0 : Int32) = nI (offN m p none) from rfl, er]
  | some s =>
    have hs := hk.1
    have eF : isF (wornF m (nI p)) (nI s) = decide (m (73 + 6 * s) = nI p) := by
      unfold wornF
      rw [isF_bsF (by omega) (by omega), decide_eq_true hk.1, decide_eq_true hk.2]; simp
    have eh : m (71 + 6 * s) - m (71 + 6 * s) / 2 = nI (lessN m s) := by
      rw [(wtN_ok v hs).1]; exact half_n (wtN_ok v hs).2.2
    have hs9 : s < 10 := by omega
    by_cases c : m (73 + 6 * s) = nI p
    · have e0 : offN m p (some s) = lessN m s := by unfold offN; simp only [if_pos c]
      refine r_aload_0 rfl ?_
      refine r_getf rfl (by assumption) (by rfl) ?_
      refine r_iload_1 rfl ?_
      refine r_invvP_1 rfl (o0) rfl rfl (by decide) (c_wornBy q v yb _) ?_
      refine r_istore_3 rfl ?_
      refine r_iload_2 rfl ?_
      refine r_push rfl ?_
      refine r_iceqF rfl (show ¬ nI s = -1 from nI_neg1 (by omega)) ?_
      refine r_iload_3 rfl ?_
      refine r_iload_2 rfl ?_
      refine r_invP_2 rfl rfl (by decide) (c_has _ _) ?_
      refine r_ifeqF rfl (by show ¬ bI (isF (wornF m (nI p)) (nI s)) = 0; rw [eF, decide_eq_true c]; decide) ?_
      refine r_aload_0 rfl ?_
      refine r_getf rfl (by assumption) (by rfl) ?_
      refine r_getf rfl (by assumption) (by rfl) ?_
      refine r_iload_2 rfl ?_
      refine r_iald rfl (oW) (show hoI (some s) = nI s from rfl) (hs9) (by first | decide | omega) ?_
      rw [cl_in hs9]
      refine r_aload_0 rfl ?_
      refine r_getf rfl (by assumption) (by rfl) ?_
      refine r_getf rfl (by assumption) (by rfl) ?_
      refine r_iload_2 rfl ?_
      refine r_iald rfl (oW) (show hoI (some s) = nI s from rfl) (hs9) (by first | decide | omega) ?_
      rw [cl_in hs9]
      refine r_push rfl ?_
      refine r_idiv rfl (by decide) ?_
      refine r_isub rfl ?_
      rw [eh]
      refine r_goto rfl ?_
      refine r_istore_4 rfl ?_
      refine r_aload_0 rfl ?_
      refine r_getf rfl (by assumption) (by rfl) ?_
      refine r_iload_3 rfl ?_
      refine r_invvP_1 rfl (o0) rfl rfl (by decide) (c_weightOf q v _) ?_
      rw [eW]
      refine r_iload_4 rfl ?_
      refine r_isub rfl ?_
      refine r_iret rfl ?_
      rw [← e0, er]
    · have e0 : offN m p (some s) = 0 := by unfold offN; simp only [if_neg c]
      refine r_aload_0 rfl ?_
      refine r_getf rfl (by assumption) (by rfl) ?_
      refine r_iload_1 rfl ?_
      refine r_invvP_1 rfl (o0) rfl rfl (by decide) (c_wornBy q v yb _) ?_
      refine r_istore_3 rfl ?_
      refine r_iload_2 rfl ?_
      refine r_push rfl ?_
      refine r_iceqF rfl (show ¬ nI s = -1 from nI_neg1 (by omega)) ?_
      refine r_iload_3 rfl ?_
      refine r_iload_2 rfl ?_
      refine r_invP_2 rfl rfl (by decide) (c_has _ _) ?_
      refine r_ifeqT rfl (by show bI (isF (wornF m (nI p)) (nI s)) = 0; rw [eF, decide_eq_false c]; rfl) ?_
      refine r_push rfl ?_
      refine r_istore_4 rfl ?_
      refine r_aload_0 rfl ?_
      refine r_getf rfl (by assumption) (by rfl) ?_
      refine r_iload_3 rfl ?_
      refine r_invvP_1 rfl (o0) rfl rfl (by decide) (c_weightOf q v _) ?_
      rw [eW]
      refine r_iload_4 rfl ?_
      refine r_isub rfl ?_
      refine r_iret rfl ?_
      rw [show (0 : Int32) = nI (offN m p (some s)) by rw [e0]; rfl, er]
theorem c_xSinks (o : h.1 x = some (.inr (0, xobj x hi))) (q : WA h (x + 1) m b l) (v : VR m) (yb : BY b m) {p r : Nat} {ho : Option Nat} (hk : HOK m ho) : Vc G 4 m_X1_sinks [.ref x, .int (nI p), .int (nI r), .int (hoI ho)] h (.int (nI (skN m p r ho))) := by
  have l1 : lbN m p ho ≤ 400 := by have := (loadN_ok v p).2; unfold lbN; omega
  have l2 : lbN m r ho ≤ 400 := by have := (loadN_ok v r).2; unfold lbN; omega
  have e : 1 + cmqF (nI (lbN m r ho)) (nI (lbN m p ho)) = nI (skN m p r ho) := by
    unfold cmqF skN
    by_cases c1 : lbN m r ho < lbN m p ho
    · rw [if_pos (nI_lt c1 (by omega)), if_pos c1]; rfl
    · rw [if_neg (fun z => c1 ((nI_ltI (by omega) (by omega)).mp z)), if_neg c1]
      by_cases c2 : lbN m r ho = lbN m p ho
      · rw [c2, if_pos rfl, if_pos rfl]; rfl
      · rw [if_neg (fun z => c2 (nI_inj (by omega) (by omega) z)), if_neg c2]; rfl
  refine wc_in mt_X1_sinks rfl (L := [.ref x, .int (nI p), .int (nI r), .int (hoI ho)]) rfl ?_
  refine r_push rfl ?_
  refine r_aload_0 rfl ?_
  refine r_iload_2 rfl ?_
  refine r_iload_3 rfl ?_
  refine r_invvP_2 rfl (o) rfl rfl (by decide) (c_xLoadBy o q v yb hk) ?_
  refine r_aload_0 rfl ?_
  refine r_iload_1 rfl ?_
  refine r_iload_3 rfl ?_
  refine r_invvP_2 rfl (o) rfl rfl (by decide) (c_xLoadBy o q v yb hk) ?_
  refine r_invP_2 rfl rfl (by decide) (c_cmq _ _) ?_
  refine r_iadd rfl ?_
  refine r_iret rfl ?_
  rw [e]
theorem c_ySinks (q : MM h y g m) (v : VR m) {p r : Nat} (hpr : p < 6 ∧ r < 6 ∧ p ≠ r) {ho : Option Nat} (hk : HOK m ho) : Vc G 4 m_X6_sinks [.ref y, .int (nI p), .int (nI r), .int (hoI ho)] h (.int (nI (skN m p r ho))) := by
  have o := q.1
  obtain ⟨e1, l1⟩ := loadN_ok v p
  obtain ⟨e2, l2⟩ := loadN_ok v r
  have hS := v.ss.2
  have f1 := offN_le v (p := p) hk
  have f2 := offN_le v (p := r) hk
  refine wc_in mt_X6_sinks rfl (L := [.ref y, .int (nI p), .int (nI r), .int (hoI ho), am_un, am_un]) rfl ?_
  have fin : ∀ (n : Int32) (v5 : Value), n = nI (lbN m p ho) - nI (lbN m r ho) → Wp G 4 mt_X6_sinks 72 [.ref y, .int (nI p), .int (nI r), .int (hoI ho), .int n, v5] [] h (fun R => R = .inl (some (.int (nI (skN m p r ho))), h)) := by
    rintro n v5 rfl
    have g1 : lbN m p ho ≤ 1000 := by unfold lbN; omega
    have g2 : lbN m r ho ≤ 1000 := by unfold lbN; omega
    unfold skN
    by_cases c1 : lbN m r ho < lbN m p ho
    · rw [if_pos c1]
      refine r_iload_4 rfl ?_
      refine r_ifleF rfl ((df_pos g1 g2).mpr c1) ?_
      refine r_push rfl ?_
      refine r_goto rfl ?_
      refine r_iret rfl ?_
      rfl
    · rw [if_neg c1]
      have n1 : nI (lbN m p ho) - nI (lbN m r ho) ≤ 0 := Int32.not_lt.mp (fun z => c1 ((df_pos g1 g2).mp z))
      by_cases c2 : lbN m r ho = lbN m p ho
      · rw [if_pos c2]
        refine r_iload_4 rfl ?_
        refine r_ifleT rfl (n1) ?_
        refine r_iload_4 rfl ?_
        refine r_ifneF rfl ((df_0 g1 g2).mpr c2.symm) ?_
        refine r_push rfl ?_
        refine r_goto rfl ?_
        refine r_iret rfl ?_
        rfl
      · rw [if_neg c2]
        refine r_iload_4 rfl ?_
        refine r_ifleT rfl (n1) ?_
        refine r_iload_4 rfl ?_
        refine r_ifneT rfl (fun z => c2 ((df_0 g1 g2).mp z).symm) ?_
        refine r_push rfl ?_
        refine r_iret rfl ?_
        rfl
  cases ho with
  | none =>
    refine r_aload_0 rfl ?_
    refine r_iload_1 rfl ?_
    refine r_invvP_1 rfl (o) rfl rfl (by decide) (c_mload q v _) ?_
    refine r_aload_0 rfl ?_
    refine r_iload_2 rfl ?_
    refine r_invvP_1 rfl (o) rfl rfl (by decide) (c_mload q v _) ?_
    refine r_isub rfl ?_
    refine r_istore_4 rfl ?_
    refine r_iload_3 rfl ?_
    refine r_push rfl ?_
    refine r_iceqT rfl (rfl) ?_
    exact fin _ _ (by rw [e1, e2]; rfl)
  | some s =>
    have hs := hk.1
    have hs9 : s < 10 := by omega
    have eh : m (71 + 6 * s) - m (71 + 6 * s) / 2 = nI (lessN m s) := by
      rw [(wtN_ok v hs).1]; exact half_n (wtN_ok v hs).2.2
    have nm : ¬ nI s = -1 := nI_neg1 (by omega)
    by_cases c : m (73 + 6 * s) = nI p
    · have e0 : offN m p (some s) = lessN m s := by unfold offN; simp only [if_pos c]
      have e9 : offN m r (some s) = 0 := by unfold offN; simp only [if_neg (show ¬ m (73 + 6 * s) = nI r from fun z => hpr.2.2 (nI_inj (by omega) (by omega) (c.symm.trans z)))]
      refine r_aload_0 rfl ?_
      refine r_iload_1 rfl ?_
      refine r_invvP_1 rfl (o) rfl rfl (by decide) (c_mload q v _) ?_
      refine r_aload_0 rfl ?_
      refine r_iload_2 rfl ?_
      refine r_invvP_1 rfl (o) rfl rfl (by decide) (c_mload q v _) ?_
      refine r_isub rfl ?_
      refine r_istore_4 rfl ?_
      refine r_iload_3 rfl ?_
      refine r_push rfl ?_
      refine r_iceqF rfl (nm) ?_
      refine r_aload_0 rfl ?_
      refine r_iload_3 rfl ?_
      refine r_push rfl ?_
      refine r_invvP_2 rfl (o) rfl rfl (by decide) (c_os2 q (show s < 100 by omega)) ?_
      refine r_aload_0 rfl ?_
      refine r_iload_3 rfl ?_
      refine r_push rfl ?_
      refine r_invvP_2 rfl (o) rfl rfl (by decide) (c_os2 q (show s < 100 by omega)) ?_
      refine r_push rfl ?_
      refine r_idiv rfl (by decide) ?_
      refine r_isub rfl ?_
      rw [eh]
      refine r_istore_5 rfl ?_
      refine r_iload_4 rfl ?_
      refine r_aload_0 rfl ?_
      refine r_iload_3 rfl ?_
      refine r_push rfl ?_
      refine r_invvP_2 rfl (o) rfl rfl (by decide) (c_os4 q (show s < 100 by omega)) ?_
      refine r_iload_1 rfl ?_
      refine r_icneF rfl (c) ?_
      refine r_iload_5 rfl ?_
      refine r_goto rfl ?_
      refine r_isub rfl ?_
      refine r_istore_4 rfl ?_
      refine fin _ _ ?_
      rw [e1, e2]
      unfold lbN
      rw [e9, e0, Nat.sub_zero]
      rw [e0] at f1
      rw [show nI (loadN m p) = nI (loadN m p - lessN m s) + nI (lessN m s) by rw [nI_add]; congr 1; omega, sub3]
    · have e0 : offN m p (some s) = 0 := by unfold offN; simp only [if_neg c]
      by_cases c2 : m (73 + 6 * s) = nI r
      · have e9 : offN m r (some s) = lessN m s := by unfold offN; simp only [if_pos c2]
        refine r_aload_0 rfl ?_
        refine r_iload_1 rfl ?_
        refine r_invvP_1 rfl (o) rfl rfl (by decide) (c_mload q v _) ?_
        refine r_aload_0 rfl ?_
        refine r_iload_2 rfl ?_
        refine r_invvP_1 rfl (o) rfl rfl (by decide) (c_mload q v _) ?_
        refine r_isub rfl ?_
        refine r_istore_4 rfl ?_
        refine r_iload_3 rfl ?_
        refine r_push rfl ?_
        refine r_iceqF rfl (nm) ?_
        refine r_aload_0 rfl ?_
        refine r_iload_3 rfl ?_
        refine r_push rfl ?_
        refine r_invvP_2 rfl (o) rfl rfl (by decide) (c_os2 q (show s < 100 by omega)) ?_
        refine r_aload_0 rfl ?_
        refine r_iload_3 rfl ?_
        refine r_push rfl ?_
        refine r_invvP_2 rfl (o) rfl rfl (by decide) (c_os2 q (show s < 100 by omega)) ?_
        refine r_push rfl ?_
        refine r_idiv rfl (by decide) ?_
        refine r_isub rfl ?_
        rw [eh]
        refine r_istore_5 rfl ?_
        refine r_iload_4 rfl ?_
        refine r_aload_0 rfl ?_
        refine r_iload_3 rfl ?_
        refine r_push rfl ?_
        refine r_invvP_2 rfl (o) rfl rfl (by decide) (c_os4 q (show s < 100 by omega)) ?_
        refine r_iload_1 rfl ?_
        refine r_icneT rfl (c) ?_
        refine r_aload_0 rfl ?_
        refine r_iload_3 rfl ?_
        refine r_push rfl ?_
        refine r_invvP_2 rfl (o) rfl rfl (by decide) (c_os4 q (show s < 100 by omega)) ?_
        refine r_iload_2 rfl ?_
        refine r_icneF rfl (c2) ?_
        refine r_iload_5 rfl ?_
        refine r_ineg rfl ?_
        refine r_goto rfl ?_
        refine r_isub rfl ?_
        refine r_istore_4 rfl ?_
        refine fin _ _ ?_
        rw [e1, e2]
        unfold lbN
        rw [e9, e0, Nat.sub_zero]
        rw [e9] at f2
        rw [show nI (loadN m r) = nI (loadN m r - lessN m s) + nI (lessN m s) by rw [nI_add]; congr 1; omega, sub4]
      · have e9 : offN m r (some s) = 0 := by unfold offN; simp only [if_neg c2]
        refine r_aload_0 rfl ?_
        refine r_iload_1 rfl ?_
        refine r_invvP_1 rfl (o) rfl rfl (by decide) (c_mload q v _) ?_
        refine r_aload_0 rfl ?_
        refine r_iload_2 rfl ?_
        refine r_invvP_1 rfl (o) rfl rfl (by decide) (c_mload q v _) ?_
        refine r_isub rfl ?_
        refine r_istore_4 rfl ?_
        refine r_iload_3 rfl ?_
        refine r_push rfl ?_
        refine r_iceqF rfl (nm) ?_
        refine r_aload_0 rfl ?_
        refine r_iload_3 rfl ?_
        refine r_push rfl ?_
        refine r_invvP_2 rfl (o) rfl rfl (by decide) (c_os2 q (show s < 100 by omega)) ?_
        refine r_aload_0 rfl ?_
        refine r_iload_3 rfl ?_
        refine r_push rfl ?_
        refine r_invvP_2 rfl (o) rfl rfl (by decide) (c_os2 q (show s < 100 by omega)) ?_
        refine r_push rfl ?_
        refine r_idiv rfl (by decide) ?_
        refine r_isub rfl ?_
        rw [eh]
        refine r_istore_5 rfl ?_
        refine r_iload_4 rfl ?_
        refine r_aload_0 rfl ?_
        refine r_iload_3 rfl ?_
        refine r_push rfl ?_
        refine r_invvP_2 rfl (o) rfl rfl (by decide) (c_os4 q (show s < 100 by omega)) ?_
        refine r_iload_1 rfl ?_
        refine r_icneT rfl (c) ?_
        refine r_aload_0 rfl ?_
        refine r_iload_3 rfl ?_
        refine r_push rfl ?_
        refine r_invvP_2 rfl (o) rfl rfl (by decide) (c_os4 q (show s < 100 by omega)) ?_
        refine r_iload_2 rfl ?_
        refine r_icneT rfl (c2) ?_
        refine r_push rfl ?_
        refine r_isub rfl ?_
        refine r_istore_4 rfl ?_
        refine fin _ _ ?_
        rw [e1, e2]
        unfold lbN
        rw [e9, e0, Nat.sub_zero, Nat.sub_zero, Int32.sub_eq_add_neg, show -(0 : Int32) = 0 from rfl, Int32.add_zero]
end
