/-! SHARE: leaves of the system -/
set_option maxRecDepth 100000
theorem tz_eq : ∀ s, s < 1024 → 0 < s → ∃ z, z < 10 ∧ (nI s ^^^ (-1)) &&& (nI s - 1) = nI (2 ^ z - 1) ∧ s.testBit z = true ∧ s &&& (s - 1) = s ^^^ 2 ^ z := by decide +kernel
theorem hi_eq : ∀ j, j < 11 → -((1 : Int32) <<< (nI j &&& 31)) = nI (2 ^ j - 1) ^^^ (-1) := by decide +kernel
theorem sh10 : ∀ k, k < 8 → nI k <<< ((10 : Int32) &&& 31) = nI (1024 * k) := by decide +kernel
theorem hi_I {st j : Nat} (hj : j < 11) : nI st &&& -((1 : Int32) <<< (nI j &&& 31)) = nI (hiS st j) := by
  rw [hi_eq j hj]
  apply tb_ext
  intro i hi
  rw [tb_and, tb_not _ hi, tb_nI hi, tb_nI hi, tb_nI hi, hiS_bit, Nat.testBit_two_pow_sub_one]
  by_cases c : j ≤ i
  · rw [decide_eq_true c, decide_eq_false (by omega)]
    cases st.testBit i <;> rfl
  · rw [decide_eq_false c, decide_eq_true (by omega)]
    cases st.testBit i <;> rfl
/-- shares -/
def soI (x : Nat) (n st : Int32) : am_C := .inr (5, [.ref (x + 66), .ref (x + 67), .ref (x + 68), .int n, .int st, .ref (x + 69), .ref (x + 70), .ref x])
theorem inS_tr {a b c : Nat} (h : inS a b) (h2 : inS b c) : inS a c := inS_of fun i hi => inS_bit h2 i (inS_bit h i hi)
theorem inS_xor {p s : Nat} (h : inS p s) : inS (s ^^^ p) s := inS_of fun i hi => by
  have := inS_bit h i
  rw [Nat.testBit_xor] at hi
  revert hi this
  cases s.testBit i <;> cases p.testBit i <;> simp
theorem cG_0 {W R : Nat → Nat} : ∀ n, cG W R n 0 = true
  | 0 => rfl
  | n + 1 => by rw [cG_s, cG_0 n]; rfl
theorem nar_bz (b : Bool) : vp_nar .boolean (bI b) = bI b := by cases b <;> decide
section
variable {G : am_G} {h : am_H} {x y : Nat} {hi : Bool} {m b g : Nat → Int32} {l : Value} {W R : Nat → Nat}
theorem c_tz {s : Nat} (hs : s < 1024) (h0 : 0 < s) : ∃ z, z < 10 ∧ s.testBit z = true ∧ s &&& (s - 1) = s ^^^ 2 ^ z ∧ Vc G 0 m_J16_numberOfTrailingZeros [.int (nI s)] h (.int (nI z)) := by
  obtain ⟨z, h1, h2, h3, h4⟩ := tz_eq s hs h0
  refine ⟨z, h1, h3, h4, ?_⟩
  refine wc_in mt_J16_numberOfTrailingZeros rfl (L := [.int (nI s), am_un]) rfl ?_
  refine r_iload_0 rfl ?_
  refine r_push rfl ?_
  refine r_ixor rfl ?_
  refine r_iload_0 rfl ?_
  refine r_push rfl ?_
  refine r_isub rfl ?_
  refine r_iand rfl ?_
  rw [h2]
  refine r_istore_0 rfl ?_
  clear h2 h3 h4
  obtain rfl | rfl | rfl | rfl | rfl | rfl | rfl | rfl | rfl | rfl : z = 0 ∨ z = 1 ∨ z = 2 ∨ z = 3 ∨ z = 4 ∨ z = 5 ∨ z = 6 ∨ z = 7 ∨ z = 8 ∨ z = 9 := by omega
  · refine r_iload_0 rfl ?_
    refine r_ifgtF rfl (by decide) ?_
    refine r_iload_0 rfl ?_
    refine r_push rfl ?_
    refine r_iand rfl ?_
    refine r_iret rfl ?_
    rfl
  · refine r_iload_0 rfl ?_
    refine r_ifgtT rfl (by decide) ?_
    refine r_push rfl ?_
    refine r_istore_1 rfl ?_
    refine r_iload_0 rfl ?_
    refine r_push rfl ?_
    refine r_icleT rfl (by decide) ?_
    refine r_iload_0 rfl ?_
    refine r_push rfl ?_
    refine r_icleT rfl (by decide) ?_
    refine r_iload_0 rfl ?_
    refine r_push rfl ?_
    refine r_icleT rfl (by decide) ?_
    refine r_iload_0 rfl ?_
    refine r_push rfl ?_
    refine r_icleT rfl (by decide) ?_
    refine r_iload_1 rfl ?_
    refine r_iload_0 rfl ?_
    refine r_push rfl ?_
    refine r_iushr rfl ?_
    refine r_iadd rfl ?_
    refine r_iret rfl ?_
    rfl
  · refine r_iload_0 rfl ?_
    refine r_ifgtT rfl (by decide) ?_
    refine r_push rfl ?_
    refine r_istore_1 rfl ?_
    refine r_iload_0 rfl ?_
    refine r_push rfl ?_
    refine r_icleT rfl (by decide) ?_
    refine r_iload_0 rfl ?_
    refine r_push rfl ?_
    refine r_icleT rfl (by decide) ?_
    refine r_iload_0 rfl ?_
    refine r_push rfl ?_
    refine r_icleT rfl (by decide) ?_
    refine r_iload_0 rfl ?_
    refine r_push rfl ?_
    refine r_icleT rfl (by decide) ?_
    refine r_iload_1 rfl ?_
    refine r_iload_0 rfl ?_
    refine r_push rfl ?_
    refine r_iushr rfl ?_
    refine r_iadd rfl ?_
    refine r_iret rfl ?_
    rfl
  · refine r_iload_0 rfl ?_
    refine r_ifgtT rfl (by decide) ?_
    refine r_push rfl ?_
    refine r_istore_1 rfl ?_
    refine r_iload_0 rfl ?_
    refine r_push rfl ?_
    refine r_icleT rfl (by decide) ?_
    refine r_iload_0 rfl ?_
    refine r_push rfl ?_
    refine r_icleT rfl (by decide) ?_
    refine r_iload_0 rfl ?_
    refine r_push rfl ?_
    refine r_icleT rfl (by decide) ?_
    refine r_iload_0 rfl ?_
    refine r_push rfl ?_
    refine r_icleF rfl (by decide) ?_
    refine r_iinc_1 rfl ?_
    refine r_iload_0 rfl ?_
    refine r_push rfl ?_
    refine r_iushr rfl ?_
    refine r_istore_0 rfl ?_
    refine r_iload_1 rfl ?_
    refine r_iload_0 rfl ?_
    refine r_push rfl ?_
    refine r_iushr rfl ?_
    refine r_iadd rfl ?_
    refine r_iret rfl ?_
    rfl
  · refine r_iload_0 rfl ?_
    refine r_ifgtT rfl (by decide) ?_
    refine r_push rfl ?_
    refine r_istore_1 rfl ?_
    refine r_iload_0 rfl ?_
    refine r_push rfl ?_
    refine r_icleT rfl (by decide) ?_
    refine r_iload_0 rfl ?_
    refine r_push rfl ?_
    refine r_icleT rfl (by decide) ?_
    refine r_iload_0 rfl ?_
    refine r_push rfl ?_
    refine r_icleT rfl (by decide) ?_
    refine r_iload_0 rfl ?_
    refine r_push rfl ?_
    refine r_icleF rfl (by decide) ?_
    refine r_iinc_1 rfl ?_
    refine r_iload_0 rfl ?_
    refine r_push rfl ?_
    refine r_iushr rfl ?_
    refine r_istore_0 rfl ?_
    refine r_iload_1 rfl ?_
    refine r_iload_0 rfl ?_
    refine r_push rfl ?_
    refine r_iushr rfl ?_
    refine r_iadd rfl ?_
    refine r_iret rfl ?_
    rfl
  · refine r_iload_0 rfl ?_
    refine r_ifgtT rfl (by decide) ?_
    refine r_push rfl ?_
    refine r_istore_1 rfl ?_
    refine r_iload_0 rfl ?_
    refine r_push rfl ?_
    refine r_icleT rfl (by decide) ?_
    refine r_iload_0 rfl ?_
    refine r_push rfl ?_
    refine r_icleT rfl (by decide) ?_
    refine r_iload_0 rfl ?_
    refine r_push rfl ?_
    refine r_icleF rfl (by decide) ?_
    refine r_iinc_1 rfl ?_
    refine r_iload_0 rfl ?_
    refine r_push rfl ?_
    refine r_iushr rfl ?_
    refine r_istore_0 rfl ?_
    refine r_iload_0 rfl ?_
    refine r_push rfl ?_
    refine r_icleT rfl (by decide) ?_
    refine r_iload_1 rfl ?_
    refine r_iload_0 rfl ?_
    refine r_push rfl ?_
    refine r_iushr rfl ?_
    refine r_iadd rfl ?_
    refine r_iret rfl ?_
    rfl
  · refine r_iload_0 rfl ?_
    refine r_ifgtT rfl (by decide) ?_
    refine r_push rfl ?_
    refine r_istore_1 rfl ?_
    refine r_iload_0 rfl ?_
    refine r_push rfl ?_
    refine r_icleT rfl (by decide) ?_
    refine r_iload_0 rfl ?_
    refine r_push rfl ?_
    refine r_icleT rfl (by decide) ?_
    refine r_iload_0 rfl ?_
    refine r_push rfl ?_
    refine r_icleF rfl (by decide) ?_
    refine r_iinc_1 rfl ?_
    refine r_iload_0 rfl ?_
    refine r_push rfl ?_
    refine r_iushr rfl ?_
    refine r_istore_0 rfl ?_
    refine r_iload_0 rfl ?_
    refine r_push rfl ?_
    refine r_icleT rfl (by decide) ?_
    refine r_iload_1 rfl ?_
    refine r_iload_0 rfl ?_
    refine r_push rfl ?_
    refine r_iushr rfl ?_
    refine r_iadd rfl ?_
    refine r_iret rfl ?_
    rfl
  · refine r_iload_0 rfl ?_
    refine r_ifgtT rfl (by decide) ?_
    refine r_push rfl ?_
    refine r_istore_1 rfl ?_
    refine r_iload_0 rfl ?_
    refine r_push rfl ?_
    refine r_icleT rfl (by decide) ?_
    refine r_iload_0 rfl ?_
    refine r_push rfl ?_
    refine r_icleT rfl (by decide) ?_
    refine r_iload_0 rfl ?_
    refine r_push rfl ?_
    refine r_icleF rfl (by decide) ?_
    refine r_iinc_1 rfl ?_
    refine r_iload_0 rfl ?_
    refine r_push rfl ?_
    refine r_iushr rfl ?_
    refine r_istore_0 rfl ?_
    refine r_iload_0 rfl ?_
    refine r_push rfl ?_
    refine r_icleF rfl (by decide) ?_
    refine r_iinc_1 rfl ?_
    refine r_iload_0 rfl ?_
    refine r_push rfl ?_
    refine r_iushr rfl ?_
    refine r_istore_0 rfl ?_
    refine r_iload_1 rfl ?_
    refine r_iload_0 rfl ?_
    refine r_push rfl ?_
    refine r_iushr rfl ?_
    refine r_iadd rfl ?_
    refine r_iret rfl ?_
    rfl
  · refine r_iload_0 rfl ?_
    refine r_ifgtT rfl (by decide) ?_
    refine r_push rfl ?_
    refine r_istore_1 rfl ?_
    refine r_iload_0 rfl ?_
    refine r_push rfl ?_
    refine r_icleT rfl (by decide) ?_
    refine r_iload_0 rfl ?_
    refine r_push rfl ?_
    refine r_icleT rfl (by decide) ?_
    refine r_iload_0 rfl ?_
    refine r_push rfl ?_
    refine r_icleF rfl (by decide) ?_
    refine r_iinc_1 rfl ?_
    refine r_iload_0 rfl ?_
    refine r_push rfl ?_
    refine r_iushr rfl ?_
    refine r_istore_0 rfl ?_
    refine r_iload_0 rfl ?_
    refine r_push rfl ?_
    refine r_icleF rfl (by decide) ?_
    refine r_iinc_1 rfl ?_
    refine r_iload_0 rfl ?_
    refine r_push rfl ?_
    refine r_iushr rfl ?_
    refine r_istore_0 rfl ?_
    refine r_iload_1 rfl ?_
    refine r_iload_0 rfl ?_
    refine r_push rfl ?_
    refine r_iushr rfl ?_
    refine r_iadd rfl ?_
    refine r_iret rfl ?_
    rfl
  · refine r_iload_0 rfl ?_
    refine r_ifgtT rfl (by decide) ?_
    refine r_push rfl ?_
    refine r_istore_1 rfl ?_
    refine r_iload_0 rfl ?_
    refine r_push rfl ?_
    refine r_icleT rfl (by decide) ?_
    refine r_iload_0 rfl ?_
    refine r_push rfl ?_
    refine r_icleF rfl (by decide) ?_
    refine r_iinc_1 rfl ?_
    refine r_iload_0 rfl ?_
    refine r_push rfl ?_
    refine r_iushr rfl ?_
    refine r_istore_0 rfl ?_
    refine r_iload_0 rfl ?_
    refine r_push rfl ?_
    refine r_icleT rfl (by decide) ?_
    refine r_iload_0 rfl ?_
    refine r_push rfl ?_
    refine r_icleT rfl (by decide) ?_
    refine r_iload_1 rfl ?_
    refine r_iload_0 rfl ?_
    refine r_push rfl ?_
    refine r_iushr rfl ?_
    refine r_iadd rfl ?_
    refine r_iret rfl ?_
    rfl
theorem c_fill {a n : Nat} {f : Nat → Int32} {v : Int32} (hn : n < 2 ^ 31) (o : h.1 a = some (.inl (0, n, .inl f))) : Un G 0 m_J9_fill [.ref a, .int v] h (am_set h a (.inl (0, n, .inl (fun k => if k < n then v else f k)))) := by
  have e0 : h = am_set h a (.inl (0, n, .inl (fun k => if k < 0 then v else f k))) := by
    rw [show (fun k => if k < 0 then v else f k) = f from rfl]
    exact (am_set_id o).symm
  refine wc_in mt_J9_fill rfl (L := [.ref a, .int v, am_un, am_un]) rfl ?_
  refine r_push rfl ?_
  refine r_istore_2 rfl ?_
  refine r_aload_0 rfl ?_
  refine r_alen rfl o ?_
  refine r_istore_3 rfl ?_
  refine wp_forHK n (fun j => [.ref a, .int v, .int (nI j), .int (nI n)]) (fun j h' => h' = am_set h a (.inl (0, n, .inl (fun k => if k < j then v else f k)))) (fun j h' hj hK kont => ?_) (fun h' hK => ?_) e0
  · subst hK
    refine r_iload_2 rfl ?_
    refine r_iload_3 rfl ?_
    refine r_icgeF rfl (nI_lt hj hn) ?_
    refine r_aload_0 rfl ?_
    refine r_iload_2 rfl ?_
    refine r_iload_1 rfl ?_
    refine r_iast rfl (am_set_at) (by rfl) (hj) (hn) ?_
    refine r_iinc_2 rfl ?_
    refine r_goto rfl ?_
    rw [nI_1]
    refine kont _ ?_
    rw [am_set_set]
    refine congrArg (fun z => am_set h a (.inl (0, n, .inl z))) (funext fun k => ?_)
    unfold upd
    by_cases c : k = j
    · subst c; rw [if_pos rfl, if_pos (by omega)]
    · rw [if_neg c]
      show (if k < j then v else f k) = _
      by_cases d : k < j
      · rw [if_pos d, if_pos (by omega)]
      · rw [if_neg d, if_neg (by omega)]
  · subst hK
    refine r_iload_2 rfl ?_
    refine r_iload_3 rfl ?_
    refine r_icgeT rfl (Int32.le_refl _) ?_
    refine r_vret rfl ?_
    rfl
theorem c_fillZ {a n : Nat} {f : Nat → Int32} (hn : n < 2 ^ 31) (o : h.1 a = some (.inl (1, n, .inl f))) : Un G 0 m_J9_fill_2 [.ref a, .int 0] h (am_set h a (.inl (1, n, .inl (fun k => if k < n then 0 else f k)))) := by
  have e0 : h = am_set h a (.inl (1, n, .inl (fun k => if k < 0 then 0 else f k))) := by
    rw [show (fun k => if k < 0 then 0 else f k) = f from rfl]
    exact (am_set_id o).symm
  refine wc_in mt_J9_fill_2 rfl (L := [.ref a, .int 0, am_un, am_un]) rfl ?_
  refine r_push rfl ?_
  refine r_istore_2 rfl ?_
  refine r_aload_0 rfl ?_
  refine r_alen rfl o ?_
  refine r_istore_3 rfl ?_
  refine wp_forHK n (fun j => [.ref a, .int 0, .int (nI j), .int (nI n)]) (fun j h' => h' = am_set h a (.inl (1, n, .inl (fun k => if k < j then 0 else f k)))) (fun j h' hj hK kont => ?_) (fun h' hK => ?_) e0
  · subst hK
    refine r_iload_2 rfl ?_
    refine r_iload_3 rfl ?_
    refine r_icgeF rfl (nI_lt hj hn) ?_
    refine r_aload_0 rfl ?_
    refine r_iload_2 rfl ?_
    refine r_iload_1 rfl ?_
    refine r_zast rfl (am_set_at) (by rfl) (hj) (hn) ?_
    refine r_iinc_2 rfl ?_
    refine r_goto rfl ?_
    rw [nI_1]
    refine kont _ ?_
    rw [am_set_set, show vp_nar .boolean 0 = 0 from rfl]
    refine congrArg (fun z => am_set h a (.inl (1, n, .inl z))) (funext fun k => ?_)
    unfold upd
    by_cases c : k = j
    · subst c; rw [if_pos rfl, if_pos (by omega)]
    · rw [if_neg c]
      show (if k < j then 0 else f k) = _
      by_cases d : k < j
      · rw [if_pos d, if_pos (by omega)]
      · rw [if_neg d, if_neg (by omega)]
  · subst hK
    refine r_iload_2 rfl ?_
    refine r_iload_3 rfl ?_
    refine r_icgeT rfl (Int32.le_refl _) ?_
    refine r_vret rfl ?_
    rfl
theorem c_x5at {k c : Nat} (hk : k < 8) (z : Nat) : Vc G 0 m_X5_at [.ref z, .int (nI k), .int (nI c)] h (.int (nI (1024 * k + c))) := by
  refine wc_in mt_X5_at rfl (L := [.ref z, .int (nI k), .int (nI c)]) rfl ?_
  refine r_iload_1 rfl ?_
  refine r_push rfl ?_
  refine r_ishl rfl ?_
  refine r_iload_2 rfl ?_
  refine r_iadd rfl ?_
  refine r_iret rfl ?_
  rw [sh10 k hk, nI_add]
theorem farV_min {b : Option Nat} {w : Nat} {t : Option Nat} (hb : ∀ v, b = some v → v ≤ 400) (hw : w ≤ 400) (ht : ∀ v, t = some v → v ≤ 400) : farV (omin b (omax w t)) = minF (farV b) (maxF (nI w) (farV t)) ∧ ∀ v, omin b (omax w t) = some v → v ≤ 400 := by
  cases t with
  | none =>
    refine ⟨?_, fun v e => ?_⟩
    · have e1 : maxF (nI w) (farV none) = nI 1000000 := by
        show maxF (nI w) (nI 1000000) = _
        rw [maxF_nI (by omega) (by decide), Nat.max_eq_right (by omega)]
      rw [e1]
      cases b with
      | none => show farV none = _; decide
      | some v =>
        have := hb v rfl
        show nI v = minF (nI v) (nI 1000000)
        rw [minF_nI (by omega) (by decide), Nat.min_eq_left (by omega)]
    · cases b with
      | none => cases e
      | some u => exact hb v e
  | some u =>
    have := ht u rfl
    refine ⟨?_, fun v e => ?_⟩
    · show _ = minF _ (maxF (nI w) (nI u))
      rw [maxF_nI (by omega) (by omega)]
      cases b with
      | none =>
        show nI (max w u) = minF (nI 1000000) (nI (max w u))
        rw [minF_nI (by decide) (by omega), Nat.min_eq_right (by omega)]
      | some v =>
        have := hb v rfl
        show nI (min v (max w u)) = minF (nI v) (nI (max w u))
        rw [minF_nI (by omega) (by omega)]
    · cases b with
      | none =>
        have : max w u = v := Option.some.inj e
        omega
      | some y =>
        have := hb y rfl
        have : min y (max w u) = v := Option.some.inj e
        omega
theorem fulV_min {b : Option Nat} {w : Nat} {t : Option Nat} (hb : ∀ v, b = some v → v ≤ 400) (hw : w ≤ 400) (ht : ∀ v, t = some v → v ≤ 400) : fulV (omin b (omax w t)) = minF (fulV b) (maxF (nI w) (fulV t)) ∧ ∀ v, omin b (omax w t) = some v → v ≤ 400 := by
  refine ⟨?_, (farV_min hb hw ht).2⟩
  cases t with
  | none =>
    have e1 : maxF (nI w) (fulV none) = nI 2000000000 := by
      show maxF (nI w) (nI 2000000000) = _
      rw [maxF_nI (by omega) (by decide), Nat.max_eq_right (by omega)]
    rw [e1]
    cases b with
    | none => show fulV none = _; decide
    | some v =>
      have := hb v rfl
      show nI v = minF (nI v) (nI 2000000000)
      rw [minF_nI (by omega) (by decide), Nat.min_eq_left (by omega)]
  | some u =>
    have := ht u rfl
    show _ = minF _ (maxF (nI w) (nI u))
    rw [maxF_nI (by omega) (by omega)]
    cases b with
    | none =>
      show nI (max w u) = minF (nI 2000000000) (nI (max w u))
      rw [minF_nI (by decide) (by omega), Nat.min_eq_right (by omega)]
    | some v =>
      have := hb v rfl
      show nI (min v (max w u)) = minF (nI v) (nI (max w u))
      rw [minF_nI (by omega) (by omega)]
theorem next_I {p s : Nat} (hp : 0 < p) : (nI p - 1) &&& nI s = nI ((p - 1) &&& s) := by
  rw [show (1 : Int32) = nI 1 from rfl, nI_sub (by omega), and_I]
theorem c_x5best {n st : Int32} {fl fs : Nat → Int32} {k s : Nat} {t : Nat → Option Nat} (wl : WL W) (o : h.1 (x + 65) = some (soI x n st)) (ol : h.1 (x + 66) = some (.inl (0, 7168, .inl fl))) (os : h.1 (x + 68) = some (.inl (0, 1024, .inl fs))) (hs : s < 1024) (hk : k < 6) (hS : ∀ p, inS p s → fs p = nI (W p)) (hL : ∀ p, inS p s → fl (1024 * (k + 1) + p) = farV (t p)) (ht : ∀ p v, t p = some v → v ≤ 400) : Vc G 1 m_X5_best [.ref (x + 65), .int (nI k), .int (nI s)] h (.int (farV (mLp W t s s s (t s)))) := by
  have loop : ∀ (f p : Nat) (bb : Option Nat), p ≤ f → inS p s → (∀ v, bb = some v → v ≤ 400) → Wp G 1 mt_X5_best 6 [.ref (x + 65), .int (nI k), .int (nI s), .int (farV bb), .int (nI p)] [] h (fun R => R = .inl (some (.int (farV (omin (t s) (mLp W t s f p bb)))), h)) := by
    intro f
    induction f with
    | zero =>
      intro p bb hp hi hb
      have : p = 0 := by omega
      subst this
      have e := farV_min hb (wl.2.1 0) (ht (s ^^^ 0))
      have e2 : omax (W 0) (t (s ^^^ 0)) = t s := by
        rw [wl.1, Nat.xor_zero]
        cases t s with
        | none => rfl
        | some v => show some (max 0 v) = _; rw [Nat.max_eq_right (Nat.zero_le _)]
      rw [e2, omin_c] at e
      rw [mLp, e.1]
      have ca : Vc G 0 m_X5_at [.ref (x + 65), .int (nI k + 1), .int (nI s &&& (nI 0 ^^^ (-1)))] h (.int (nI (1024 * (k + 1) + (s ^^^ 0)))) := by rw [xor_I hi, nI_1]; exact c_x5at (by omega) _
      refine r_iload_3 rfl ?_
      refine r_aload_0 rfl ?_
      refine r_getf rfl (by assumption) (by rfl) ?_
      refine r_iload_4 rfl ?_
      refine r_iald rfl (os) (rfl) (show 0 < 1024 by decide) (by first | decide | omega) ?_
      refine r_aload_0 rfl ?_
      refine r_getf rfl (by assumption) (by rfl) ?_
      refine r_aload_0 rfl ?_
      refine r_iload_1 rfl ?_
      refine r_push rfl ?_
      refine r_iadd rfl ?_
      refine r_iload_2 rfl ?_
      refine r_iload_4 rfl ?_
      refine r_push rfl ?_
      refine r_ixor rfl ?_
      refine r_iand rfl ?_
      refine r_invvP_2 rfl (by assumption) rfl rfl (by decide) (ca) ?_
      refine r_iald rfl (ol) (rfl) (show 1024 * (k + 1) + (s ^^^ 0) < 7168 by rw [Nat.xor_zero]; omega) (by first | decide | omega) ?_
      refine r_invP_2 rfl rfl (by decide) (c_max _ _) ?_
      refine r_invP_2 rfl rfl (by decide) (c_min _ _) ?_
      refine r_istore_3 rfl ?_
      refine r_iload_4 rfl ?_
      refine r_ifneF rfl (by decide) ?_
      refine r_iload_3 rfl ?_
      refine r_iret rfl ?_
      rw [hS 0 (inS_0 s), hL _ (inS_xor hi)]
    | succ f ih =>
      intro p bb hp hi hb
      by_cases z : p = 0
      · subst z
        have e := farV_min hb (wl.2.1 0) (ht (s ^^^ 0))
        have e2 : omax (W 0) (t (s ^^^ 0)) = t s := by
          rw [wl.1, Nat.xor_zero]
          cases t s with
          | none => rfl
          | some v => show some (max 0 v) = _; rw [Nat.max_eq_right (Nat.zero_le _)]
        rw [e2, omin_c] at e
        rw [mLp, if_pos rfl, e.1]
        have ca : Vc G 0 m_X5_at [.ref (x + 65), .int (nI k + 1), .int (nI s &&& (nI 0 ^^^ (-1)))] h (.int (nI (1024 * (k + 1) + (s ^^^ 0)))) := by rw [xor_I hi, nI_1]; exact c_x5at (by omega) _
        refine r_iload_3 rfl ?_
        refine r_aload_0 rfl ?_
        refine r_getf rfl (by assumption) (by rfl) ?_
        refine r_iload_4 rfl ?_
        refine r_iald rfl (os) (rfl) (show 0 < 1024 by decide) (by first | decide | omega) ?_
        refine r_aload_0 rfl ?_
        refine r_getf rfl (by assumption) (by rfl) ?_
        refine r_aload_0 rfl ?_
        refine r_iload_1 rfl ?_
        refine r_push rfl ?_
        refine r_iadd rfl ?_
        refine r_iload_2 rfl ?_
        refine r_iload_4 rfl ?_
        refine r_push rfl ?_
        refine r_ixor rfl ?_
        refine r_iand rfl ?_
        refine r_invvP_2 rfl (by assumption) rfl rfl (by decide) (ca) ?_
        refine r_iald rfl (ol) (rfl) (show 1024 * (k + 1) + (s ^^^ 0) < 7168 by rw [Nat.xor_zero]; omega) (by first | decide | omega) ?_
        refine r_invP_2 rfl rfl (by decide) (c_max _ _) ?_
        refine r_invP_2 rfl rfl (by decide) (c_min _ _) ?_
        refine r_istore_3 rfl ?_
        refine r_iload_4 rfl ?_
        refine r_ifneF rfl (by decide) ?_
        refine r_iload_3 rfl ?_
        refine r_iret rfl ?_
        rw [hS 0 (inS_0 s), hL _ (inS_xor hi)]
      · rw [mLp, if_neg z]
        have hx := xor_lt hi (by omega)
        have hle := inS_le hi
        have e := farV_min hb (wl.2.1 p) (ht (s ^^^ p))
        have hlt : (p - 1) &&& s ≤ f := by
          have : (p - 1) &&& s ≤ p - 1 := Nat.and_le_left
          omega
        have again := ih ((p - 1) &&& s) _ hlt inS_next e.2
        rw [e.1] at again
        have ca : Vc G 0 m_X5_at [.ref (x + 65), .int (nI k + 1), .int (nI s &&& (nI p ^^^ (-1)))] h (.int (nI (1024 * (k + 1) + (s ^^^ p)))) := by rw [xor_I hi, nI_1]; exact c_x5at (by omega) _
        refine r_iload_3 rfl ?_
        refine r_aload_0 rfl ?_
        refine r_getf rfl (by assumption) (by rfl) ?_
        refine r_iload_4 rfl ?_
        refine r_iald rfl (os) (rfl) (show p < 1024 by omega) (by first | decide | omega) ?_
        refine r_aload_0 rfl ?_
        refine r_getf rfl (by assumption) (by rfl) ?_
        refine r_aload_0 rfl ?_
        refine r_iload_1 rfl ?_
        refine r_push rfl ?_
        refine r_iadd rfl ?_
        refine r_iload_2 rfl ?_
        refine r_iload_4 rfl ?_
        refine r_push rfl ?_
        refine r_ixor rfl ?_
        refine r_iand rfl ?_
        refine r_invvP_2 rfl (by assumption) rfl rfl (by decide) (ca) ?_
        refine r_iald rfl (ol) (rfl) (show 1024 * (k + 1) + (s ^^^ p) < 7168 by omega) (by first | decide | omega) ?_
        refine r_invP_2 rfl rfl (by decide) (c_max _ _) ?_
        refine r_invP_2 rfl rfl (by decide) (c_min _ _) ?_
        refine r_istore_3 rfl ?_
        refine r_iload_4 rfl ?_
        refine r_ifneT rfl (fun q => z (nI_inj (c := 0) (by omega) (by decide) q)) ?_
        refine r_iload_4 rfl ?_
        refine r_push rfl ?_
        refine r_isub rfl ?_
        refine r_iload_2 rfl ?_
        refine r_iand rfl ?_
        refine r_istore_4 rfl ?_
        refine r_goto rfl ?_
        rw [next_I (by omega), hS p hi, hL _ (inS_xor hi)]
        exact again
  refine wc_in mt_X5_best rfl (L := [.ref (x + 65), .int (nI k), .int (nI s), am_un, am_un]) rfl ?_
  refine r_push rfl ?_
  refine r_istore_3 rfl ?_
  refine r_iload_2 rfl ?_
  refine r_istore_4 rfl ?_
  have q := loop s s none (Nat.le_refl _) (Nat.and_self _) (fun _ e => by cases e)
  rw [← mLp_out, omin_n] at q
  exact q
theorem c_x5fits {n st : Int32} {fs fl fg : Nat → Int32} {s k v : Nat} {gg : Nat → Bool} (wl : WL W) (o : h.1 (x + 65) = some (soI x n st)) (os : h.1 (x + 68) = some (.inl (0, 1024, .inl fs))) (ol : h.1 (x + 69) = some (.inl (0, 6, .inl fl))) (og : h.1 (x + 70) = some (.inl (1, 1024, .inl fg))) (hs : s < 1024) (hk : k < 6) (hv : v ≤ 400) (hS : ∀ p, inS p s → fs p = nI (W p)) (hL : fl k = nI (v - R k) ∧ R k ≤ v) (hg : ∀ p, inS p s → p < s → fg p = bI (gg p)) : Vc G 0 m_X5_fits [.ref (x + 65), .int (nI s), .int (nI k), .int (nI v)] h (.int (bI (gLp W (R k) gg s s s))) := by
  have loop : ∀ (f p : Nat), p ≤ f → inS p s → Wp G 0 mt_X5_fits 3 [.ref (x + 65), .int (nI s), .int (nI k), .int (nI v), .int (nI p)] [] h (fun R' => R' = .inl (some (.int (bI (gLp W (R k) gg s f p))), h)) := by
    intro f
    induction f with
    | zero =>
      intro p hp hi
      have : p = 0 := by omega
      subst this
      refine r_iload_4 rfl ?_
      refine r_ifleT rfl (by decide) ?_
      refine r_push rfl ?_
      refine r_zret rfl (by first | decide | assumption) ?_
      rfl
    | succ f ih =>
      intro p hp hi
      rw [gLp]
      by_cases z : p = 0
      · subst z
        rw [if_pos rfl]
        refine r_iload_4 rfl ?_
        refine r_ifleT rfl (by decide) ?_
        refine r_push rfl ?_
        refine r_zret rfl (by first | decide | assumption) ?_
        rfl
      · rw [if_neg z]
        have hx := xor_lt hi (by omega)
        have hle := inS_le hi
        have hw := wl.2.1 p
        have hlt : (p - 1) &&& s ≤ f := by
          have : (p - 1) &&& s ≤ p - 1 := Nat.and_le_left
          omega
        have again := ih ((p - 1) &&& s) hlt inS_next
        have eg := hg _ (inS_xor hi) hx
        have es : fl k + fs p = nI (v - R k + W p) := by rw [hL.1, hS p hi, nI_add]
        have hR := hL.2
        cases c : gg (s ^^^ p) with
        | false =>
          rw [c] at eg
          rw [Bool.and_false, Bool.false_or]
          refine r_iload_4 rfl ?_
          refine r_ifleF rfl (nI_lt (a := 0) (by omega) (by omega)) ?_
          refine r_aload_0 rfl ?_
          refine r_getf rfl (by assumption) (by rfl) ?_
          refine r_iload_1 rfl ?_
          refine r_iload_4 rfl ?_
          refine r_push rfl ?_
          refine r_ixor rfl ?_
          refine r_iand rfl ?_
          refine r_zald rfl (og) (xor_I hi) (show s ^^^ p < 1024 by omega) (by first | decide | omega) ?_
          refine r_ifeqT rfl (eg) ?_
          refine r_iload_4 rfl ?_
          refine r_push rfl ?_
          refine r_isub rfl ?_
          refine r_iload_1 rfl ?_
          refine r_iand rfl ?_
          refine r_istore_4 rfl ?_
          refine r_goto rfl ?_
          rw [next_I (by omega)]
          exact again
        | true =>
          rw [c] at eg
          rw [Bool.and_true]
          by_cases d : W p ≤ R k
          · rw [decide_eq_true d, Bool.true_or]
            refine r_iload_4 rfl ?_
            refine r_ifleF rfl (nI_lt (a := 0) (by omega) (by omega)) ?_
            refine r_aload_0 rfl ?_
            refine r_getf rfl (by assumption) (by rfl) ?_
            refine r_iload_1 rfl ?_
            refine r_iload_4 rfl ?_
            refine r_push rfl ?_
            refine r_ixor rfl ?_
            refine r_iand rfl ?_
            refine r_zald rfl (og) (xor_I hi) (show s ^^^ p < 1024 by omega) (by first | decide | omega) ?_
            refine r_ifeqF rfl (by rw [eg]; decide) ?_
            refine r_aload_0 rfl ?_
            refine r_getf rfl (by assumption) (by rfl) ?_
            refine r_iload_2 rfl ?_
            refine r_iald rfl (ol) (rfl) (hk) (by first | decide | omega) ?_
            refine r_aload_0 rfl ?_
            refine r_getf rfl (by assumption) (by rfl) ?_
            refine r_iload_4 rfl ?_
            refine r_iald rfl (os) (rfl) (show p < 1024 by omega) (by first | decide | omega) ?_
            refine r_iadd rfl ?_
            refine r_iload_3 rfl ?_
            refine r_icgtF rfl (by rw [es]; exact nI_le (by omega) (by omega)) ?_
            refine r_push rfl ?_
            refine r_zret rfl (by first | decide | assumption) ?_
            rfl
          · rw [decide_eq_false d, Bool.false_or]
            refine r_iload_4 rfl ?_
            refine r_ifleF rfl (nI_lt (a := 0) (by omega) (by omega)) ?_
            refine r_aload_0 rfl ?_
            refine r_getf rfl (by assumption) (by rfl) ?_
            refine r_iload_1 rfl ?_
            refine r_iload_4 rfl ?_
            refine r_push rfl ?_
            refine r_ixor rfl ?_
            refine r_iand rfl ?_
            refine r_zald rfl (og) (xor_I hi) (show s ^^^ p < 1024 by omega) (by first | decide | omega) ?_
            refine r_ifeqF rfl (by rw [eg]; decide) ?_
            refine r_aload_0 rfl ?_
            refine r_getf rfl (by assumption) (by rfl) ?_
            refine r_iload_2 rfl ?_
            refine r_iald rfl (ol) (rfl) (hk) (by first | decide | omega) ?_
            refine r_aload_0 rfl ?_
            refine r_getf rfl (by assumption) (by rfl) ?_
            refine r_iload_4 rfl ?_
            refine r_iald rfl (os) (rfl) (show p < 1024 by omega) (by first | decide | omega) ?_
            refine r_iadd rfl ?_
            refine r_iload_3 rfl ?_
            refine r_icgtT rfl (by rw [es]; exact nI_lt (by omega) (by omega)) ?_
            refine r_iload_4 rfl ?_
            refine r_push rfl ?_
            refine r_isub rfl ?_
            refine r_iload_1 rfl ?_
            refine r_iand rfl ?_
            refine r_istore_4 rfl ?_
            refine r_goto rfl ?_
            rw [next_I (by omega)]
            exact again
  refine wc_in mt_X5_fits rfl (L := [.ref (x + 65), .int (nI s), .int (nI k), .int (nI v), am_un]) rfl ?_
  refine r_iload_1 rfl ?_
  refine r_istore_4 rfl ?_
  exact loop s s (Nat.le_refl _) (Nat.and_self _)
end
