/-! PARSE: which fact, which kind a word is; parts and sums -/
set_option maxRecDepth 100000
def factW (w : List Int32) : Option Nat := if decide (w = w_who) = true then some 0 else if decide (w = w_load) = true then some 1 else if decide (w = w_back) = true then some 2 else if decide (w = w_place) = true then some 3 else if decide (w = w_slope) = true then some 4 else if decide (w = w_tired) = true then some 5 else if decide (w = w_hour) = true then some 6 else none
def kindW (w : List Int32) : Option Nat := if decide (w = w_tire) = true then some 0 else if decide (w = w_earn) = true then some 1 else if decide (w = w_hurt) = true then some 2 else none
theorem factF_W (T : Nat → Int32) (e a : Nat) : factF T e a = factW (subF T (skF T e a) (wbF T e a - skF T e a)) := rfl
theorem kindF_W (T : Nat → Int32) (e a : Nat) : kindF T e a = kindW (subF T (skF T e a) (wbF T e a - skF T e a)) := rfl
theorem factW_at : ∀ k, k < 7 → factW (w_fact k) = some k := by decide +kernel
theorem kindW_at : ∀ k, k < 3 → kindW (w_kind k) = some k := by decide +kernel
theorem factW_no {w : List Int32} (h : ∀ i, i < 7 → w_fact i ≠ w) : factW w = none := by
  have h0 := h 0 (by decide); have h1 := h 1 (by decide); have h2 := h 2 (by decide); have h3 := h 3 (by decide); have h4 := h 4 (by decide); have h5 := h 5 (by decide); have h6 := h 6 (by decide)
  unfold factW
  rw [if_neg (fun z => h0 (of_decide_eq_true z).symm), if_neg (fun z => h1 (of_decide_eq_true z).symm), if_neg (fun z => h2 (of_decide_eq_true z).symm), if_neg (fun z => h3 (of_decide_eq_true z).symm), if_neg (fun z => h4 (of_decide_eq_true z).symm), if_neg (fun z => h5 (of_decide_eq_true z).symm), if_neg (fun z => h6 (of_decide_eq_true z).symm)]
theorem kindW_no {w : List Int32} (h : ∀ i, i < 3 → w_kind i ≠ w) : kindW w = none := by
  have h0 := h 0 (by decide); have h1 := h 1 (by decide); have h2 := h 2 (by decide)
  unfold kindW
  rw [if_neg (fun z => h0 (of_decide_eq_true z).symm), if_neg (fun z => h1 (of_decide_eq_true z).symm), if_neg (fun z => h2 (of_decide_eq_true z).symm)]
section
variable {h : am_H} {G : am_G} {bs s : Nat} {w : List Int32}
theorem c_factOf (w0 : HW h) (og : OG G bs h) (hS : SA h s w) : Ev G 2 m_X16_of [.ref s] h (fun v h' => HF (fun _ => False) 1 7 h h' ∧ ((factW w = none ∧ v = .null) ∨ ∃ k b, factW w = some k ∧ k < 7 ∧ v = .ref b ∧ b < bs ∧ ∃ vv, h.1 b = some (.inr (124, [vv, .int (nI k)])))) := by
  obtain ⟨-, -, -, -, -, ⟨a6, fd, q1, q2, q3, qk⟩⟩ := og
  have F1 := HF.new (n := 7) (e := .inl (6, 7, oar fd)) w0
  have hS1 := hS.keep F1 (fun a e y z n u => z.elim) (fun z => z.elim)
  have cv : Ev G 0 m_X16_values [] h (fun v h' => v = .ref h.2.1 ∧ h' = am_new h (.inl (6, 7, oar fd)) 7) := by
    refine wc_in mt_X16_values rfl (L := []) rfl ?_
    refine r_globR rfl q1 ?_
    refine r_clone rfl q3 rfl rfl ?_
    refine r_casta rfl am_new_at rfl ?_
    exact r_aret rfl ⟨_, _, rfl, rfl, rfl⟩
  refine wc_in mt_X16_of rfl (L := [.ref s, am_un, am_un, am_un, am_un]) rfl ?_
  refine r_invE rfl rfl rfl (by decide) cv ?_
  rintro v h1 ⟨rfl, rfl⟩
  have o1 : (am_new h (.inl (6, 7, oar fd)) 7).1 h.2.1 = some (.inl (6, 7, oar fd)) := am_new_at
  refine r_astore_1 rfl ?_
  refine r_aload_1 rfl ?_
  refine r_alen rfl o1 ?_
  refine r_istore_2 rfl ?_
  refine r_push rfl ?_
  refine r_istore_3 rfl ?_
  have key := wp_forH (G := G) (d := 2) (M := mt_X16_of) (pc := 9) (Q := fun R => ∃ v h', R = .inl (some v, h') ∧ HF (fun _ => False) 1 7 h h' ∧ ((factW w = none ∧ v = .null) ∨ ∃ k b, factW w = some k ∧ k < 7 ∧ v = .ref b ∧ b < bs ∧ ∃ vv, h.1 b = some (.inr (124, [vv, .int (nI k)])))) 7 (fun j L h1 => (∃ x, L = [.ref s, .ref h.2.1, .int (nI 7), .int (nI j), x]) ∧ h1 = am_new h (.inl (6, 7, oar fd)) 7 ∧ ∀ i, i < j → w_fact i ≠ w) ?_ ?_
  · exact key _ _ ⟨⟨am_un, rfl⟩, rfl, fun i hi => absurd hi (by omega)⟩
  · rintro j L h1 hj ⟨⟨x, rfl⟩, rfl, hno⟩ kont
    obtain ⟨b, vv, e1, e2, e3, e4⟩ := qk j hj
    have e3' := am_new_k (n := 7) (e := .inl (6, 7, oar fd)) w0 e3
    have e4' := e4.keep F1 (fun _ z => z.elim)
    refine r_iload_3 rfl ?_
    refine r_iload_2 rfl ?_
    refine r_icgeF rfl (nI_lt hj (by decide)) ?_
    refine r_aload_1 rfl ?_
    refine r_iload_3 rfl ?_
    refine r_aald rfl o1 rfl rfl hj (by decide) ?_
    rw [e1]
    refine r_astore_4 rfl ?_
    refine r_aload_4 rfl ?_
    refine r_getfO rfl e3' rfl rfl ?_
    refine r_aload_0 rfl ?_
    obtain ⟨va, vf, vh, vz, -, vo, -⟩ := id e4'
    refine r_k (nx := 28) (L' := _) (rest := []) rfl (am_invv_ok (n := 1) rfl vo rfl rfl) (by decide) (c_equals e4'.sa hS1) (fun R q => ?_)
    subst q
    refine r_ifeq rfl (fun c => ?_) (fun c => ?_)
    · have ne : w_fact j ≠ w := of_decide_eq_false (bI_0.mp c)
      refine r_iinc_3 rfl ?_
      refine r_goto rfl ?_
      rw [nI_1]
      refine kont _ _ ⟨⟨_, rfl⟩, rfl, fun i hi => ?_⟩
      by_cases z : i = j
      · rw [z]; exact ne
      · exact hno i (by omega)
    · have eq : w_fact j = w := of_decide_eq_true (bI_n0.mp c)
      refine r_aload_4 rfl ?_
      refine r_aret rfl ?_
      exact ⟨_, _, rfl, F1.mono (fun _ z => z) (by decide) (by decide), Or.inr ⟨j, b, by rw [← eq]; exact factW_at j hj, hj, rfl, e2, _, e3⟩⟩
  · rintro L h1 ⟨⟨x, rfl⟩, rfl, hno⟩
    refine r_iload_3 rfl ?_
    refine r_iload_2 rfl ?_
    refine r_icgeT rfl (Int32.le_refl _) ?_
    refine r_push rfl ?_
    refine r_aretN rfl ?_
    exact ⟨_, _, rfl, F1.mono (fun _ z => z) (by decide) (by decide), Or.inl ⟨factW_no hno, rfl⟩⟩
theorem c_kindOf (w0 : HW h) (og : OG G bs h) (hS : SA h s w) : Ev G 2 m_X9_of [.ref s] h (fun v h' => HF (fun _ => False) 1 7 h h' ∧ ((kindW w = none ∧ v = .null) ∨ ∃ k b, kindW w = some k ∧ k < 3 ∧ v = .ref b ∧ b < bs ∧ G (gk k) = .ref b)) := by
  obtain ⟨-, -, -, -, ⟨a6, fd, kd, q1, q2, q3, -, qk⟩, -⟩ := og
  have F1 := HF.new (n := 3) (e := .inl (5, 3, oar fd)) w0
  have hS1 := hS.keep F1 (fun a e y z n u => z.elim) (fun z => z.elim)
  have cv : Ev G 0 m_X9_values [] h (fun v h' => v = .ref h.2.1 ∧ h' = am_new h (.inl (5, 3, oar fd)) 3) := by
    refine wc_in mt_X9_values rfl (L := []) rfl ?_
    refine r_globR rfl q1 ?_
    refine r_clone rfl q3 rfl rfl ?_
    refine r_casta rfl am_new_at rfl ?_
    exact r_aret rfl ⟨_, _, rfl, rfl, rfl⟩
  refine wc_in mt_X9_of rfl (L := [.ref s, am_un, am_un, am_un, am_un]) rfl ?_
  refine r_invE rfl rfl rfl (by decide) cv ?_
  rintro v h1 ⟨rfl, rfl⟩
  have o1 : (am_new h (.inl (5, 3, oar fd)) 3).1 h.2.1 = some (.inl (5, 3, oar fd)) := am_new_at
  refine r_astore_1 rfl ?_
  refine r_aload_1 rfl ?_
  refine r_alen rfl o1 ?_
  refine r_istore_2 rfl ?_
  refine r_push rfl ?_
  refine r_istore_3 rfl ?_
  have key := wp_forH (G := G) (d := 2) (M := mt_X9_of) (pc := 9) (Q := fun R => ∃ v h', R = .inl (some v, h') ∧ HF (fun _ => False) 1 7 h h' ∧ ((kindW w = none ∧ v = .null) ∨ ∃ k b, kindW w = some k ∧ k < 3 ∧ v = .ref b ∧ b < bs ∧ G (gk k) = .ref b)) 3 (fun j L h1 => (∃ x, L = [.ref s, .ref h.2.1, .int (nI 3), .int (nI j), x]) ∧ h1 = am_new h (.inl (5, 3, oar fd)) 3 ∧ ∀ i, i < j → w_kind i ≠ w) ?_ ?_
  · exact key _ _ ⟨⟨am_un, rfl⟩, rfl, fun i hi => absurd hi (by omega)⟩
  · rintro j L h1 hj ⟨⟨x, rfl⟩, rfl, hno⟩ kont
    obtain ⟨e1, eg, e2, vv, e3, e4⟩ := qk j hj
    have e3' := am_new_k (n := 3) (e := .inl (5, 3, oar fd)) w0 e3
    have e4' := e4.keep F1 (fun _ z => z.elim)
    refine r_iload_3 rfl ?_
    refine r_iload_2 rfl ?_
    refine r_icgeF rfl (nI_lt hj (by decide)) ?_
    refine r_aload_1 rfl ?_
    refine r_iload_3 rfl ?_
    refine r_aald rfl o1 rfl rfl hj (by decide) ?_
    rw [e1]
    refine r_astore_4 rfl ?_
    refine r_aload_4 rfl ?_
    refine r_getfO rfl e3' rfl rfl ?_
    refine r_aload_0 rfl ?_
    obtain ⟨va, vf, vh, vz, -, vo, -⟩ := id e4'
    refine r_k (nx := 28) (L' := _) (rest := []) rfl (am_invv_ok (n := 1) rfl vo rfl rfl) (by decide) (c_equals e4'.sa hS1) (fun R q => ?_)
    subst q
    refine r_ifeq rfl (fun c => ?_) (fun c => ?_)
    · have ne : w_kind j ≠ w := of_decide_eq_false (bI_0.mp c)
      refine r_iinc_3 rfl ?_
      refine r_goto rfl ?_
      rw [nI_1]
      refine kont _ _ ⟨⟨_, rfl⟩, rfl, fun i hi => ?_⟩
      by_cases z : i = j
      · rw [z]; exact ne
      · exact hno i (by omega)
    · have eq : w_kind j = w := of_decide_eq_true (bI_n0.mp c)
      refine r_aload_4 rfl ?_
      refine r_aret rfl ?_
      exact ⟨_, _, rfl, F1.mono (fun _ z => z) (by decide) (by decide), Or.inr ⟨j, kd j, by rw [← eq]; exact kindW_at j hj, hj, rfl, e2, eg⟩⟩
  · rintro L h1 ⟨⟨x, rfl⟩, rfl, hno⟩
    refine r_iload_3 rfl ?_
    refine r_iload_2 rfl ?_
    refine r_icgeT rfl (Int32.le_refl _) ?_
    refine r_push rfl ?_
    refine r_aretN rfl ?_
    exact ⟨_, _, rfl, F1.mono (fun _ z => z) (by decide) (by decide), Or.inl ⟨kindW_no hno, rfl⟩⟩
end
