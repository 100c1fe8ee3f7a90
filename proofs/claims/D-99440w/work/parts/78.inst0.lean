/-! SOUND, the eighth part: what the instances share; printed by gen/inst.py -/
set_option maxRecDepth 100000
theorem sn_lf {k : Nat} {a : am_A} {P : Nat → am_A → Prop} (h : P k a) : ∀ pc act, am_lf k a pc = some act → P pc act := by
  intro pc act e
  unfold am_lf at e
  cases q : Nat.beq pc k with
  | false => rw [q] at e; cases e
  | true => rw [q] at e; cases e; rw [Nat.eq_of_beq_eq_true q]; exact h
theorem sn_nd {k : Nat} {x y : Nat → Option am_A} {P : Nat → am_A → Prop} (hx : ∀ pc act, x pc = some act → P pc act) (hy : ∀ pc act, y pc = some act → P pc act) : ∀ pc act, am_nd k x y pc = some act → P pc act := by
  intro pc act e
  unfold am_nd at e
  cases q : Nat.blt pc k with
  | false => rw [q] at e; exact hy _ _ e
  | true => rw [q] at e; exact hx _ _ e
theorem lw_good5 {a b c d : Cond} {y : MethodName} {by9 : ByteArray} {L : Nat} {r : Option FieldType} (ha : a ∈ lw_all) (hb : b ∈ lw_all) (hc : c ∈ lw_all) (hd : d ∈ lw_all) {e : Cond} (he : e ∈ lw_all) (hf : Cond.code y by9 L r ∈ lw_all) : GoodIn lw_all (([a, b, c, d, e] : List Cond) ++ ws_ y by9 L r) := by
  refine lw_app (fun w hw => ?_) (lw_meth hf)
  simp only [List.mem_cons, List.not_mem_nil, or_false] at hw
  rcases hw with rfl | rfl | rfl | rfl | rfl <;> assumption
theorem lw_good6 {a b c d g : Cond} {y : MethodName} {by9 : ByteArray} {L : Nat} {r : Option FieldType} (ha : a ∈ lw_all) (hb : b ∈ lw_all) (hc : c ∈ lw_all) (hd : d ∈ lw_all) {e : Cond} (he : e ∈ lw_all) (hg : g ∈ lw_all) (hf : Cond.code y by9 L r ∈ lw_all) : GoodIn lw_all (([a, b, c, d, e, g] : List Cond) ++ ws_ y by9 L r) := by
  refine lw_app (fun w hw => ?_) (lw_meth hf)
  simp only [List.mem_cons, List.not_mem_nil, or_false] at hw
  rcases hw with rfl | rfl | rfl | rfl | rfl | rfl <;> assumption
theorem lw_good4 {a b c d : Cond} {y : MethodName} {by9 : ByteArray} {L : Nat} {r : Option FieldType} (ha : a ∈ lw_all) (hb : b ∈ lw_all) (hc : c ∈ lw_all) (hd : d ∈ lw_all) (hf : Cond.code y by9 L r ∈ lw_all) : GoodIn lw_all (([a, b, c, d] : List Cond) ++ ws_ y by9 L r) := by
  refine lw_app (fun w hw => ?_) (lw_meth hf)
  simp only [List.mem_cons, List.not_mem_nil, or_false] at hw
  rcases hw with rfl | rfl | rfl | rfl <;> assumption
theorem cf_X1 : am_Cf 0 RX1 TX1 11 tyX1 := ⟨rfl, by decide, in_X1, tyX1_ok, nmX1⟩
theorem dv_X1 : ∀ j, j < 11 → defaultValue (tyX1 j) = vp_V [.null, .null, .null, .int 0, .null, .null, .null, .null, .null, .null, .null] j := fun j hj => match j, hj with
  | 0, _ => rfl
  | 1, _ => rfl
  | 2, _ => rfl
  | 3, _ => rfl
  | 4, _ => rfl
  | 5, _ => rfl
  | 6, _ => rfl
  | 7, _ => rfl
  | 8, _ => rfl
  | 9, _ => rfl
  | 10, _ => rfl
  | n + 11, h => absurd h (by omega)
theorem cf_X2 : am_Cf 1 RX2 TX2 22 tyX2 := ⟨rfl, by decide, in_X2, tyX2_ok, nmX2⟩
theorem dv_X2 : ∀ j, j < 22 → defaultValue (tyX2 j) = vp_V [.int 0, .int 0, .int 0, .int 0, .int 0, .int 0, .int 0, .null, .null, .null, .null, .null, .null, .null, .null, .null, .null, .null, .null, .null, .null, .null] j := fun j hj => match j, hj with
  | 0, _ => rfl
  | 1, _ => rfl
  | 2, _ => rfl
  | 3, _ => rfl
  | 4, _ => rfl
  | 5, _ => rfl
  | 6, _ => rfl
  | 7, _ => rfl
  | 8, _ => rfl
  | 9, _ => rfl
  | 10, _ => rfl
  | 11, _ => rfl
  | 12, _ => rfl
  | 13, _ => rfl
  | 14, _ => rfl
  | 15, _ => rfl
  | 16, _ => rfl
  | 17, _ => rfl
  | 18, _ => rfl
  | 19, _ => rfl
  | 20, _ => rfl
  | 21, _ => rfl
  | n + 22, h => absurd h (by omega)
theorem cf_X3 : am_Cf 2 RX3 TX3 7 tyX3 := ⟨rfl, by decide, in_X3, tyX3_ok, nmX3⟩
theorem dv_X3 : ∀ j, j < 7 → defaultValue (tyX3 j) = vp_V [.null, .int 0, .int 0, .int 0, .int 0, .int 0, .int 0] j := fun j hj => match j, hj with
  | 0, _ => rfl
  | 1, _ => rfl
  | 2, _ => rfl
  | 3, _ => rfl
  | 4, _ => rfl
  | 5, _ => rfl
  | 6, _ => rfl
  | n + 7, h => absurd h (by omega)
theorem cf_X4 : am_Cf 3 RX4 TX4 8 tyX4 := ⟨rfl, by decide, in_X4, tyX4_ok, nmX4⟩
theorem dv_X4 : ∀ j, j < 8 → defaultValue (tyX4 j) = vp_V [.int 0, .int 0, .int 0, .int 0, .int 0, .int 0, .int 0, .int 0] j := fun j hj => match j, hj with
  | 0, _ => rfl
  | 1, _ => rfl
  | 2, _ => rfl
  | 3, _ => rfl
  | 4, _ => rfl
  | 5, _ => rfl
  | 6, _ => rfl
  | 7, _ => rfl
  | n + 8, h => absurd h (by omega)
theorem cf_J2 : am_Cf 4 RJ2 TJ2 3 tyJ2 := ⟨rfl, by decide, in_J2, tyJ2_ok, nmJ2⟩
theorem dv_J2 : ∀ j, j < 3 → defaultValue (tyJ2 j) = vp_V [.int 0, .null, .int 0] j := fun j hj => match j, hj with
  | 0, _ => rfl
  | 1, _ => rfl
  | 2, _ => rfl
  | n + 3, h => absurd h (by omega)
theorem cf_X5 : am_Cf 5 RX5 TX5 8 tyX5 := ⟨rfl, by decide, in_X5, tyX5_ok, nmX5⟩
theorem dv_X5 : ∀ j, j < 8 → defaultValue (tyX5 j) = vp_V [.null, .null, .null, .int 0, .int 0, .null, .null, .null] j := fun j hj => match j, hj with
  | 0, _ => rfl
  | 1, _ => rfl
  | 2, _ => rfl
  | 3, _ => rfl
  | 4, _ => rfl
  | 5, _ => rfl
  | 6, _ => rfl
  | 7, _ => rfl
  | n + 8, h => absurd h (by omega)
theorem cf_J4 : am_Cf 6 RJ4 TJ4 4 tyJ4 := ⟨rfl, by decide, in_J4, tyJ4_ok, nmJ4⟩
theorem dv_J4 : ∀ j, j < 4 → defaultValue (tyJ4 j) = vp_V [.null, .int 0, .int 0, .int 0] j := fun j hj => match j, hj with
  | 0, _ => rfl
  | 1, _ => rfl
  | 2, _ => rfl
  | 3, _ => rfl
  | n + 4, h => absurd h (by omega)
theorem cf_J5 : am_Cf 7 RJ5 TJ5 4 tyJ5 := ⟨rfl, by decide, in_J5, tyJ5_ok, nmJ5⟩
theorem dv_J5 : ∀ j, j < 4 → defaultValue (tyJ5 j) = vp_V [.null, .int 0, .int 0, .int 0] j := fun j hj => match j, hj with
  | 0, _ => rfl
  | 1, _ => rfl
  | 2, _ => rfl
  | 3, _ => rfl
  | n + 4, h => absurd h (by omega)
theorem cf_X8 : am_Cf 8 RX8 TX8 1 tyX8 := ⟨rfl, by decide, in_X8, tyX8_ok, nmX8⟩
theorem dv_X8 : ∀ j, j < 1 → defaultValue (tyX8 j) = vp_V [.null] j := fun j hj => match j, hj with
  | 0, _ => rfl
  | n + 1, h => absurd h (by omega)
theorem cf_X10 : am_Cf 9 RX10 TX10 3 tyX10 := ⟨rfl, by decide, in_X10, tyX10_ok, nmX10⟩
theorem dv_X10 : ∀ j, j < 3 → defaultValue (tyX10 j) = vp_V [.null, .int 0, .null] j := fun j hj => match j, hj with
  | 0, _ => rfl
  | 1, _ => rfl
  | 2, _ => rfl
  | n + 3, h => absurd h (by omega)
theorem cf_X11 : am_Cf 10 RX11 TX11 2 tyX11 := ⟨rfl, by decide, in_X11, tyX11_ok, nmX11⟩
theorem dv_X11 : ∀ j, j < 2 → defaultValue (tyX11 j) = vp_V [.int 0, .null] j := fun j hj => match j, hj with
  | 0, _ => rfl
  | 1, _ => rfl
  | n + 2, h => absurd h (by omega)
theorem cf_X12 : am_Cf 11 RX12 TX12 1 tyX12 := ⟨rfl, by decide, in_X12, tyX12_ok, nmX12⟩
theorem dv_X12 : ∀ j, j < 1 → defaultValue (tyX12 j) = vp_V [.null] j := fun j hj => match j, hj with
  | 0, _ => rfl
  | n + 1, h => absurd h (by omega)
theorem cf_X13 : am_Cf 12 RX13 TX13 1 tyX13 := ⟨rfl, by decide, in_X13, tyX13_ok, nmX13⟩
theorem dv_X13 : ∀ j, j < 1 → defaultValue (tyX13 j) = vp_V [.int 0] j := fun j hj => match j, hj with
  | 0, _ => rfl
  | n + 1, h => absurd h (by omega)
theorem cf_X14 : am_Cf 13 RX14 TX14 1 tyX14 := ⟨rfl, by decide, in_X14, tyX14_ok, nmX14⟩
theorem dv_X14 : ∀ j, j < 1 → defaultValue (tyX14 j) = vp_V [.null] j := fun j hj => match j, hj with
  | 0, _ => rfl
  | n + 1, h => absurd h (by omega)
theorem cf_X15 : am_Cf 14 RX15 TX15 2 tyX15 := ⟨rfl, by decide, in_X15, tyX15_ok, nmX15⟩
theorem dv_X15 : ∀ j, j < 2 → defaultValue (tyX15 j) = vp_V [.int 0, .null] j := fun j hj => match j, hj with
  | 0, _ => rfl
  | 1, _ => rfl
  | n + 2, h => absurd h (by omega)
theorem cf_X17 : am_Cf 15 RX17 TX17 2 tyX17 := ⟨rfl, by decide, in_X17, tyX17_ok, nmX17⟩
theorem dv_X17 : ∀ j, j < 2 → defaultValue (tyX17 j) = vp_V [.null, .null] j := fun j hj => match j, hj with
  | 0, _ => rfl
  | 1, _ => rfl
  | n + 2, h => absurd h (by omega)
theorem cf_X6 : am_Cf 16 RX6 TX6 23 tyX6 := ⟨rfl, by decide, in_X6, tyX6_ok, nmX6⟩
theorem dv_X6 : ∀ j, j < 23 → defaultValue (tyX6 j) = vp_V [.int 0, .null, .null, .int 0, .null, .null, .int 0, .null, .int 0, .int 0, .int 0, .int 0, .int 0, .int 0, .null, .int 0, .int 0, .int 0, .int 0, .int 0, .null, .null, .null] j := fun j hj => match j, hj with
  | 0, _ => rfl
  | 1, _ => rfl
  | 2, _ => rfl
  | 3, _ => rfl
  | 4, _ => rfl
  | 5, _ => rfl
  | 6, _ => rfl
  | 7, _ => rfl
  | 8, _ => rfl
  | 9, _ => rfl
  | 10, _ => rfl
  | 11, _ => rfl
  | 12, _ => rfl
  | 13, _ => rfl
  | 14, _ => rfl
  | 15, _ => rfl
  | 16, _ => rfl
  | 17, _ => rfl
  | 18, _ => rfl
  | 19, _ => rfl
  | 20, _ => rfl
  | 21, _ => rfl
  | 22, _ => rfl
  | n + 23, h => absurd h (by omega)
theorem cf_X7 : am_Cf 17 RX7 TX7 6 tyX7 := ⟨rfl, by decide, in_X7, tyX7_ok, nmX7⟩
theorem dv_X7 : ∀ j, j < 6 → defaultValue (tyX7 j) = vp_V [.null, .null, .null, .null, .null, .int 0] j := fun j hj => match j, hj with
  | 0, _ => rfl
  | 1, _ => rfl
  | 2, _ => rfl
  | 3, _ => rfl
  | 4, _ => rfl
  | 5, _ => rfl
  | n + 6, h => absurd h (by omega)
section
variable {tc : Nat → ClassId} {s : State}
theorem nm_0 (w : va_RA s (tc 0) (am_ty 0)) : s.vm.findClass "[I" = some (tc 0) := w
theorem nm_2 (w : va_RA s (tc 2) (am_ty 2)) : s.vm.findClass "[B" = some (tc 2) := w
theorem nm_4 (w : va_RA s (tc 4) (am_ty 4)) : s.vm.findClass "[Ljava/lang/Object;" = some (tc 4) := va_nmO (C := "java/lang/Object") w (by decide)
theorem nm_5 (w : va_RA s (tc 5) (am_ty 5)) : s.vm.findClass "[LStoneBacks$Kind;" = some (tc 5) := va_nmO (C := "StoneBacks$Kind") w (by decide)
theorem nm_6 (w : va_RA s (tc 6) (am_ty 6)) : s.vm.findClass "[LStoneBacks$Fact;" = some (tc 6) := va_nmO (C := "StoneBacks$Fact") w (by decide)
end
theorem cs_Cond : ∀ d ∈ [10, 11, 12, 15], d < 100 ∧ Cond.castable (am_nm d) "StoneBacks$Cond" ∈ am_nw := by
  intro d hd
  simp only [List.mem_cons, List.not_mem_nil, or_false] at hd
  rcases hd with rfl | rfl | rfl | rfl
  · exact ⟨by decide, (List.mem_of_getElem? (i := 59) rfl)⟩
  · exact ⟨by decide, (List.mem_of_getElem? (i := 60) rfl)⟩
  · exact ⟨by decide, (List.mem_of_getElem? (i := 61) rfl)⟩
  · exact ⟨by decide, (List.mem_of_getElem? (i := 62) rfl)⟩
theorem hF_X8_34 : ∀ q ∈ [(10, 130), (11, 132), (12, 134), (15, 142)], ∃ C T N y bytes maxL rt, am_nm q.1 = C ∧ am_cl[q.1]? = some (C, T, N) ∧ q.1 < 100 ∧ am_J q.2 = (y, ws_ y bytes maxL rt) ∧ GoodIn lw_all (va_wsF "StoneBacks$Law" 34 C ⟨"StoneBacks$Cond", "holds", "(LStoneBacks$Scene;)Z"⟩ y (ws_ y bytes maxL rt)) ∧ (C, (⟨"StoneBacks$Cond", "holds", "(LStoneBacks$Scene;)Z"⟩ : MethodName), y) ∈ am_fw ∧ maxL ≤ 21 ∧ 1 + 1 ≤ (am_P q.2).2.1 := by
  intro q hq
  simp only [List.mem_cons, List.not_mem_nil, or_false] at hq
  rcases hq with rfl | rfl | rfl | rfl
  · exact ⟨_, _, _, _, _, _, _, rfl, rfl, by decide, rfl, lw_good4 q554 q593 q595 q144 q597, (List.mem_of_getElem? (i := 0) rfl), by decide, by decide⟩
  · exact ⟨_, _, _, _, _, _, _, rfl, rfl, by decide, rfl, lw_good4 q554 q585 q587 q145 q589, (List.mem_of_getElem? (i := 1) rfl), by decide, by decide⟩
  · exact ⟨_, _, _, _, _, _, _, rfl, rfl, by decide, rfl, lw_good4 q554 q604 q606 q146 q608, (List.mem_of_getElem? (i := 2) rfl), by decide, by decide⟩
  · exact ⟨_, _, _, _, _, _, _, rfl, rfl, by decide, rfl, lw_good4 q554 q558 q560 q150 q562, (List.mem_of_getElem? (i := 3) rfl), by decide, by decide⟩
theorem hF_X12_13 : ∀ q ∈ [(10, 130), (11, 132), (12, 134), (15, 142)], ∃ C T N y bytes maxL rt, am_nm q.1 = C ∧ am_cl[q.1]? = some (C, T, N) ∧ q.1 < 100 ∧ am_J q.2 = (y, ws_ y bytes maxL rt) ∧ GoodIn lw_all (va_wsF "StoneBacks$Not" 13 C ⟨"StoneBacks$Cond", "holds", "(LStoneBacks$Scene;)Z"⟩ y (ws_ y bytes maxL rt)) ∧ (C, (⟨"StoneBacks$Cond", "holds", "(LStoneBacks$Scene;)Z"⟩ : MethodName), y) ∈ am_fw ∧ maxL ≤ 21 ∧ 1 + 1 ≤ (am_P q.2).2.1 := by
  intro q hq
  simp only [List.mem_cons, List.not_mem_nil, or_false] at hq
  rcases hq with rfl | rfl | rfl | rfl
  · exact ⟨_, _, _, _, _, _, _, rfl, rfl, by decide, rfl, lw_good4 q591 q593 q595 q144 q597, (List.mem_of_getElem? (i := 0) rfl), by decide, by decide⟩
  · exact ⟨_, _, _, _, _, _, _, rfl, rfl, by decide, rfl, lw_good4 q591 q585 q587 q145 q589, (List.mem_of_getElem? (i := 1) rfl), by decide, by decide⟩
  · exact ⟨_, _, _, _, _, _, _, rfl, rfl, by decide, rfl, lw_good4 q591 q604 q606 q146 q608, (List.mem_of_getElem? (i := 2) rfl), by decide, by decide⟩
  · exact ⟨_, _, _, _, _, _, _, rfl, rfl, by decide, rfl, lw_good4 q591 q558 q560 q150 q562, (List.mem_of_getElem? (i := 3) rfl), by decide, by decide⟩
theorem hF_X11_30 : ∀ q ∈ [(10, 130), (11, 132), (12, 134), (15, 142)], ∃ C T N y bytes maxL rt, am_nm q.1 = C ∧ am_cl[q.1]? = some (C, T, N) ∧ q.1 < 100 ∧ am_J q.2 = (y, ws_ y bytes maxL rt) ∧ GoodIn lw_all (va_wsF "StoneBacks$Row" 30 C ⟨"StoneBacks$Cond", "holds", "(LStoneBacks$Scene;)Z"⟩ y (ws_ y bytes maxL rt)) ∧ (C, (⟨"StoneBacks$Cond", "holds", "(LStoneBacks$Scene;)Z"⟩ : MethodName), y) ∈ am_fw ∧ maxL ≤ 21 ∧ 1 + 1 ≤ (am_P q.2).2.1 := by
  intro q hq
  simp only [List.mem_cons, List.not_mem_nil, or_false] at hq
  rcases hq with rfl | rfl | rfl | rfl
  · exact ⟨_, _, _, _, _, _, _, rfl, rfl, by decide, rfl, lw_good4 q602 q593 q595 q144 q597, (List.mem_of_getElem? (i := 0) rfl), by decide, by decide⟩
  · exact ⟨_, _, _, _, _, _, _, rfl, rfl, by decide, rfl, lw_good4 q602 q585 q587 q145 q589, (List.mem_of_getElem? (i := 1) rfl), by decide, by decide⟩
  · exact ⟨_, _, _, _, _, _, _, rfl, rfl, by decide, rfl, lw_good4 q602 q604 q606 q146 q608, (List.mem_of_getElem? (i := 2) rfl), by decide, by decide⟩
  · exact ⟨_, _, _, _, _, _, _, rfl, rfl, by decide, rfl, lw_good4 q602 q558 q560 q150 q562, (List.mem_of_getElem? (i := 3) rfl), by decide, by decide⟩
