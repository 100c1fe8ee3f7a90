/-! READER: numbers; the thing that is thrown -/
set_option maxRecDepth 100000
theorem nI_sub {a b : Nat} (h : b ≤ a) : nI a - nI b = nI (a - b) := by
  obtain ⟨k, rfl⟩ := Nat.le.dest h
  rw [← nI_add, Nat.add_sub_cancel_left, Int32.add_comm, Int32.add_sub_cancel]
/-- units of room: ten cells, 1600 slots -/
abbrev HC (P : Nat → Prop) (n : Nat) (h h' : am_H) : Prop := HF P (10 * n) (1600 * n) h h'
theorem HF.c {P : Nat → Prop} {c s n : Nat} {h h' : am_H} (f : HF P c s h h') (hc : c ≤ 10 * n) (hs : s ≤ 1600 * n) : HC P n h h' := f.mono (fun _ z => z) hc hs
theorem HC.t {P : Nat → Prop} {n m k : Nat} {h h' h'' : am_H} (f : HC P n h h') (g : HC P m h' h'') (e : n + m ≤ k) : HC P k h h'' := (HF.trans f g).mono (fun _ z => z) (by omega) (by omega)
theorem HC.le {P : Nat → Prop} {n k : Nat} {h h' : am_H} (f : HC P n h h') (e : n ≤ k) : HC P k h h' := f.mono (fun _ z => z) (by omega) (by omega)
/-- the sentinels of Throwable: references or null -/
def GT (G : am_G) : Prop := (G 31 = .null ∨ ∃ a, G 31 = .ref a) ∧ (G 32 = .null ∨ ∃ a, G 32 = .ref a)
section
variable {T f : Nat → Int32} {e len r : Nat} {at_ bg ft dp : Int32} {h h0 : am_H} {G : am_G} {P : Nat → Prop}
theorem r_globO {d : Nat} {M : am_M} {pc nx g : Nat} {L st : List Value} {Q : am_O → Prop} (hf : M.1 pc = some (a_glob g nx)) (k : ∀ v, v = G g → Wp G d M nx L (v :: st) h Q) : Wp G d M pc L st h Q := r_glob hf (k _ rfl)
theorem r_putaO {d : Nat} {M : am_M} {pc nx : Nat} {L st : List Value} {Q : am_O → Prop} {a c i : Nat} {fs : List Value} {x : Value} (hx : x = .null ∨ ∃ b, x = .ref b) (hf : M.1 pc = some (a_puta c i nx)) (ha : h.1 a = some (.inr (c, fs))) (hl : Nat.blt i fs.length = true) (k : Wp G d M nx L st (am_set h a (.inr (c, am_st fs i x))) Q) : Wp G d M pc L (x :: .ref a :: st) h Q := by
  rcases hx with rfl | ⟨b, rfl⟩
  · exact r_putaN hf ha hl k
  · exact r_puta hf ha hl k
theorem c_thrInit (g : GT G) {a : Nat} {v1 v2 v3 v4 v5 v6 : Value} (w : HW h) (ha : h.1 a = some (.inr (17, [v1, v2, v3, v4, v5, v6]))) : En G 0 m_J12_init_3 [.ref a, .null, .null, .int 0, .int 0] h (fun h' => ∃ fs, h' = am_set h a (.inr (17, fs))) := by
  refine wc_in mt_J12_init_3 rfl (L := [.ref a, .null, .null, .int 0, .int 0]) rfl ?_
  refine r_aload_0 rfl ?_
  refine r_oinit rfl rfl ?_
  refine r_aload_0 rfl ?_
  refine r_aload_0 rfl ?_
  refine r_puta rfl ha rfl ?_
  refine r_aload_0 rfl ?_
  refine r_glob rfl ?_
  refine r_putaO g.1 rfl am_set_at rfl ?_
  refine r_aload_0 rfl ?_
  refine r_glob rfl ?_
  refine r_putaO g.2 rfl am_set_at rfl ?_
  refine r_iload_4 rfl ?_
  refine r_ifeqT rfl (rfl) ?_
  refine r_aload_0 rfl ?_
  refine r_push rfl ?_
  refine r_putaN rfl (am_set_at) rfl ?_
  refine r_aload_0 rfl ?_
  refine r_aloadN_1 rfl ?_
  refine r_putaN rfl (am_set_at) rfl ?_
  refine r_aload_0 rfl ?_
  refine r_aloadN_2 rfl ?_
  refine r_putaN rfl (am_set_at) rfl ?_
  refine r_iload_3 rfl ?_
  refine r_ifneF rfl (rfl) ?_
  refine r_aload_0 rfl ?_
  refine r_push rfl ?_
  refine r_putaN rfl (am_set_at) rfl ?_
  refine r_vret rfl ?_
  simp only [am_set_set]; exact ⟨_, rfl, _, rfl⟩
theorem c_wrInit (g : GT G) {a : Nat} {v1 v2 v3 v4 v5 v6 : Value} (w : HW h) (ha : h.1 a = some (.inr (17, [v1, v2, v3, v4, v5, v6]))) : En G 2 m_X7_init [.ref a] h (fun h' => ∃ fs, h' = am_set h a (.inr (17, fs))) := by
  refine wc_in mt_X7_init rfl (L := [.ref a]) rfl ?_
  refine r_aload_0 rfl ?_
  refine r_push rfl ?_
  refine r_push rfl ?_
  refine r_push rfl ?_
  refine r_push rfl ?_
  refine r_inviF rfl rfl rfl (e := 1) (by decide) (Φn := fun h' => ∃ fs, h' = am_set h a (.inr (17, fs))) ?_ ?_
  · refine wc_in mt_J13_init_2 rfl (L := [.ref a, .null, .null, .int 0, .int 0]) rfl ?_
    refine r_aload_0 rfl ?_
    refine r_aloadN_1 rfl ?_
    refine r_aloadN_2 rfl ?_
    refine r_iload_3 rfl ?_
    refine r_iload_4 rfl ?_
    refine r_inviF rfl rfl rfl (by decide) (c_thrInit g w ha) ?_
    intro h9 q9
    refine r_vret rfl ?_
    exact ⟨_, rfl, q9⟩
  · intro h' q
    refine r_vret rfl ?_
    exact ⟨_, rfl, q⟩
theorem c_wrong (g : GT G) (w : HW h) {x : Value} : Ev G 3 m_X3_wrong [x] h (fun v h' => v = .ref h.2.1 ∧ (∃ fs, h'.1 h.2.1 = some (.inr (17, fs))) ∧ HF P 1 6 h h') := by
  refine wc_in mt_X3_wrong rfl (L := [x]) rfl ?_
  refine r_new rfl rfl ?_
  refine r_dupR rfl ?_
  refine r_inviF rfl rfl rfl (by decide) (c_wrInit g (HF.new w).w am_new_at) ?_
  rintro h' ⟨fs, rfl⟩
  refine r_aret rfl ?_
  exact ⟨_, _, rfl, rfl, ⟨fs, am_set_at⟩, HF.setN ((HF.new w).mono (fun _ z => z.elim) (Nat.le_refl _) (Nat.le_refl _)) am_new_at w (Nat.le_refl _)⟩
theorem RS.keep {h' : am_H} {c s : Nat} (q : RS h r f len e at_ bg ft dp) (g : HF P c s h h') (h1 : ¬ P r) (h2 : ¬ P (r + 1)) : RS h' r f len e at_ bg ft dp := ⟨g.k q.1 h1, g.k q.2 h2⟩
theorem fg_val (t : TX T f e) {a : Nat} (h1 : a < e) (h2 : isFg (T a) = true) : rbF T e a = T a := by
  have he := t.1
  rw [rbF, if_pos h1]
  obtain ⟨q, hq, hT⟩ := (t.2 a (by omega)).1
  rw [hT] at h2 ⊢
  refine (sbI_a q hq).1 ?_
  simp only [isFg, inF, Bool.and_eq_true, decide_eq_true_eq] at h2
  have := (nI_leI (by omega) (by omega)).mp (show nI q ≤ nI 57 from h2.2)
  omega
theorem rb_fg (t : TX T f e) {a : Nat} : inF (rbF T e a) 48 57 = (decide (a < e) && isFg (T a)) := rb_in t (by decide) (by decide)
/-- what a number answers -/
def numQ (T f : Nat → Int32) (r len e : Nat) (ft dp lo hi : Int32) (b k : Nat) (h0 : am_H) (R : am_O) : Prop :=
  (∃ v h', R = .inl (some v, h') ∧ ∃ x, nbF T e lo hi b k = .inr (x, k) ∧ v = .int x ∧ RS h' r f len e (nI k) (nI b) ft dp ∧ HF (isR r) 0 0 h0 h') ∨ (∃ c h', R = .inr (c, h') ∧ nbF T e lo hi b k = .inl b ∧ c = 17 ∧ RS h' r f len e (nI k) (nI b) ft dp ∧ HC (isR r) 1 h0 h')
theorem nuF_3 {T : Nat → Int32} {b k : Nat} (h : k - b ≤ 3) : nuF T b (min (k - b) 3) = nuF T b (k - b) := by rw [Nat.min_eq_left h]
theorem c_figsEnd (g : GT G) (t : TX T f e) {lo hi n : Int32} {b k : Nat} (hb : b ≤ k) (hk : k ≤ e) (hn : n = nuF T b (min (k - b) 3)) (q : RS h r f len e (nI k) (nI b) ft dp) (F : HF (isR r) 0 0 h0 h) : Wp G 4 mt_X3_figures 75 [.ref r, .int lo, .int hi, .int 3, .int n] [] h (numQ T f r len e ft dp lo hi b k h0) := by
  have he := t.1
  have w := F.w
  have q0 := q
  obtain ⟨o, o1⟩ := q
  have dk := nI_eq (a := k) (b := b) (by omega) (by omega)
  have d3 : (3 : Int32) < nI k - nI b ↔ 3 < k - b := by rw [nI_sub hb]; exact nI_ltI (a := 3) (by decide) (by omega)
  have thr : nbF T e lo hi b k = .inl b → Wp G 4 mt_X3_figures 109 [.ref r, .int lo, .int hi, .int 3, .int n] [] h (numQ T f r len e ft dp lo hi b k h0) := by
    intro hz
    refine r_aload_0 rfl ?_
    refine r_invvE rfl rfl (by assumption) rfl rfl (by decide) (c_wrong (P := fun _ => False) (by assumption) (by assumption)) ?_
    intro v110 h110 q110; obtain ⟨e110, ⟨fs110, o110⟩, f110⟩ := q110; subst e110; have w110 := f110.w
    refine r_athrow rfl (o110) rfl rfl ?_
    exact Or.inr ⟨_, _, rfl, hz, rfl, q0.keep f110 (fun z => z) (fun z => z), (F.trans (f110.mono (fun _ z => z.elim) (Nat.le_refl _) (Nat.le_refl _))).mono (fun _ z => z) (by decide) (by decide)⟩
  refine r_aload_0 rfl ?_
  refine r_getf rfl (by assumption) (by rfl) ?_
  refine r_aload_0 rfl ?_
  refine r_getf rfl (by assumption) (by rfl) ?_
  refine r_iceq rfl (fun c_83 => ?_) (fun c_83 => ?_)
  · refine thr ?_
    unfold nbF
    refine if_pos ?_
    first | exact Or.inl (Or.inl (dk.mp c_83)) | exact Or.inl (Or.inr (d3.mp c_96)) | (have z3 : k - b ≤ 3 := Nat.not_lt.mp (fun z => Int32.not_lt.mpr c_96 (d3.mpr z)); rw [hn, nuF_3 z3] at c_106; exact Or.inr (bI_0.mp c_106))
  · refine r_aload_0 rfl ?_
    refine r_getf rfl (by assumption) (by rfl) ?_
    refine r_aload_0 rfl ?_
    refine r_getf rfl (by assumption) (by rfl) ?_
    refine r_isub rfl ?_
    refine r_iload_3 rfl ?_
    refine r_icgt rfl (fun c_96 => ?_) (fun c_96 => ?_)
    · refine thr ?_
      unfold nbF
      refine if_pos ?_
      first | exact Or.inl (Or.inl (dk.mp c_83)) | exact Or.inl (Or.inr (d3.mp c_96)) | (have z3 : k - b ≤ 3 := Nat.not_lt.mp (fun z => Int32.not_lt.mpr c_96 (d3.mpr z)); rw [hn, nuF_3 z3] at c_106; exact Or.inr (bI_0.mp c_106))
    · refine r_iload_4 rfl ?_
      refine r_iload_1 rfl ?_
      refine r_iload_2 rfl ?_
      refine r_invP_3 rfl rfl (by decide) (c_in _ _ _) ?_
      refine r_ifne rfl (fun c_106 => ?_) (fun c_106 => ?_)
      · refine r_iload_4 rfl ?_
        refine r_iret rfl ?_
        have z3 : k - b ≤ 3 := Nat.not_lt.mp (fun z => Int32.not_lt.mpr c_96 (d3.mpr z))
        rw [hn, nuF_3 z3] at c_106
        refine Or.inl ⟨_, _, rfl, nuF T b (k - b), ?_, by rw [hn, nuF_3 z3], q0, F⟩
        unfold nbF
        refine if_neg ?_
        rintro ((z | z) | z)
        · exact c_83 (dk.mpr z)
        · exact Int32.not_lt.mpr c_96 (d3.mpr z)
        · exact c_106 (bI_0.mpr z)
      · refine thr ?_
        unfold nbF
        refine if_pos ?_
        first | exact Or.inl (Or.inl (dk.mp c_83)) | exact Or.inl (Or.inr (d3.mp c_96)) | (have z3 : k - b ≤ 3 := Nat.not_lt.mp (fun z => Int32.not_lt.mpr c_96 (d3.mpr z)); rw [hn, nuF_3 z3] at c_106; exact Or.inr (bI_0.mp c_106))
/-- the loop over the figures -/
theorem c_figsL (g : GT G) (t : TX T f e) {lo hi : Int32} {b : Nat} : ∀ a, ∀ h n, b ≤ a → a ≤ e → n = nuF T b (min (a - b) 3) → RS h r f len e (nI a) (nI b) ft dp → HF (isR r) 0 0 h0 h → Wp G 4 mt_X3_figures 7 [.ref r, .int lo, .int hi, .int 3, .int n] [] h (numQ T f r len e ft dp lo hi b (fgF T e a) h0) := by
  have he := t.1
  refine scan_ind (p := isFg) (T := T) (e := e) (fun a ha hp ih => ?_) (fun a ha => ?_)
  · intro h n hb hae hn q F
    have q0 := q
    obtain ⟨o, o1⟩ := q
    have e1 : fgF T e a = fgF T e (a + 1) := scan_step ha hp
    have ev := fg_val t ha hp
    have ef : inF (rbF T e a) 48 57 = true := by rw [rb_fg t, decide_eq_true ha, hp]; rfl
    have d3 : (3 : Int32) ≤ nI a - nI b ↔ 3 ≤ a - b := by rw [nI_sub hb]; exact nI_leI (a := 3) (by decide) (by omega)
    refine r_aload_0 rfl ?_
    refine r_aload_0 rfl ?_
    refine r_getf rfl (by assumption) (by rfl) ?_
    refine r_invvP_1 rfl (by assumption) rfl rfl (by decide) (c_byteAt (by assumption) (by assumption) (by omega)) ?_
    refine r_push rfl ?_
    refine r_push rfl ?_
    refine r_invP_3 rfl rfl (by decide) (c_in _ _ _) ?_
    refine r_ifeqF rfl (by rw [ef]; decide) ?_
    refine r_aload_0 rfl ?_
    refine r_getf rfl (by assumption) (by rfl) ?_
    refine r_aload_0 rfl ?_
    refine r_getf rfl (by assumption) (by rfl) ?_
    refine r_isub rfl ?_
    refine r_iload_3 rfl ?_
    refine r_icge rfl (fun c_35 => ?_) (fun c_35 => ?_)
    · refine r_iload_4 rfl ?_
      refine r_istore_4 rfl ?_
      refine r_aload_0 rfl ?_
      refine r_dupR rfl ?_
      refine r_getf rfl (by assumption) (by rfl) ?_
      refine r_push rfl ?_
      refine r_iadd rfl ?_
      refine r_puti rfl (by assumption) rfl ?_
      refine r_goto rfl ?_
      rw [e1, nI_1]
      refine ih _ _ (by omega) (by omega) ?_ q0.set (HF.setP F o rfl)
      first | (have z : 3 ≤ a - b := d3.mp c_35; rw [hn, Nat.min_eq_right z, Nat.min_eq_right (by omega)]) | (have z : ¬ 3 ≤ a - b := fun z => Int32.not_le.mpr c_35 (d3.mpr z); rw [ev, hn, Nat.min_eq_left (by omega), Nat.min_eq_left (by omega), show a + 1 - b = (a - b) + 1 by omega, nuF, show b + (a - b) = a by omega])
    · refine r_push rfl ?_
      refine r_iload_4 rfl ?_
      refine r_imul rfl ?_
      refine r_aload_0 rfl ?_
      refine r_aload_0 rfl ?_
      refine r_getf rfl (by assumption) (by rfl) ?_
      refine r_invvP_1 rfl (by assumption) rfl rfl (by decide) (c_byteAt (by assumption) (by assumption) (by omega)) ?_
      refine r_iadd rfl ?_
      refine r_push rfl ?_
      refine r_isub rfl ?_
      refine r_goto rfl ?_
      refine r_istore_4 rfl ?_
      refine r_aload_0 rfl ?_
      refine r_dupR rfl ?_
      refine r_getf rfl (by assumption) (by rfl) ?_
      refine r_push rfl ?_
      refine r_iadd rfl ?_
      refine r_puti rfl (by assumption) rfl ?_
      refine r_goto rfl ?_
      rw [e1, nI_1]
      refine ih _ _ (by omega) (by omega) ?_ q0.set (HF.setP F o rfl)
      first | (have z : 3 ≤ a - b := d3.mp c_35; rw [hn, Nat.min_eq_right z, Nat.min_eq_right (by omega)]) | (have z : ¬ 3 ≤ a - b := fun z => Int32.not_le.mpr c_35 (d3.mpr z); rw [ev, hn, Nat.min_eq_left (by omega), Nat.min_eq_left (by omega), show a + 1 - b = (a - b) + 1 by omega, nuF, show b + (a - b) = a by omega])
  · intro h n hb hae hn q F
    have q0 := q
    obtain ⟨o, o1⟩ := q
    have e1 : fgF T e a = a := scan_stop ha
    have ef : inF (rbF T e a) 48 57 = false := by
      rw [rb_fg t]
      by_cases z : a < e
      · rw [ha z, Bool.and_false]
      · rw [decide_eq_false z, Bool.false_and]
    rw [e1]
    refine r_aload_0 rfl ?_
    refine r_aload_0 rfl ?_
    refine r_getf rfl (by assumption) (by rfl) ?_
    refine r_invvP_1 rfl (by assumption) rfl rfl (by decide) (c_byteAt (by assumption) (by assumption) (by omega)) ?_
    refine r_push rfl ?_
    refine r_push rfl ?_
    refine r_invP_3 rfl rfl (by decide) (c_in _ _ _) ?_
    refine r_ifeqT rfl (by rw [ef]; rfl) ?_
    exact c_figsEnd g t hb hae hn q0 F
theorem c_figures (g : GT G) (w : HW h) (t : TX T f e) {a : Nat} (q : RS h r f len e (nI a) bg ft dp) (ha : a ≤ e) {lo hi : Int32} : Wc G 4 m_X3_figures [.ref r, .int lo, .int hi, .int 3] h (numQ T f r len e ft dp lo hi (skF T e a) (fgF T e (skF T e a)) h) := by
  have he := t.1
  have hs := sk_le T ha
  have o := q.1
  refine wc_in mt_X3_figures rfl (L := [.ref r, .int lo, .int hi, .int 3, am_un]) rfl ?_
  refine r_aload_0 rfl ?_
  refine r_invvF rfl rfl (by assumption) rfl rfl (by decide) (c_blanks0 (by assumption) (by assumption) (by assumption) (by assumption)) ?_
  intro h1 q1; obtain ⟨q1, f1⟩ := q1; have o1 := q1.1; have oo1 := q1.2; have w1 := f1.w
  refine r_push rfl ?_
  refine r_istore_4 rfl ?_
  exact c_figsL g t _ _ _ (Nat.le_refl _) hs (by rw [Nat.sub_self]; rfl) q1 f1
/-- what a number answers, as it is read from a on -/
def numP (T f : Nat → Int32) (r len e : Nat) (ft dp lo hi : Int32) (a : Nat) (h0 : am_H) : Value → am_H → Prop := fun v h' => ∃ x k, numF T e lo hi a = .inr (x, k) ∧ v = .int x ∧ k ≤ e ∧ RS h' r f len e (nI k) (nI (skF T e a)) ft dp ∧ HF (isR r) 0 0 h0 h'
/-- a fault: where it is, what is thrown -/
def FT (f : Nat → Int32) (r len e : Nat) (ft : Int32) (q n : Nat) (h0 : am_H) : Nat → am_H → Prop := fun c h' => c = 17 ∧ (∃ at_ dp, RS h' r f len e at_ (nI q) ft dp) ∧ HC (isR r) n h0 h'
theorem c_number (g : GT G) (w : HW h) (t : TX T f e) {a : Nat} (q : RS h r f len e (nI a) bg ft dp) (ha : a ≤ e) {lo hi : Int32} : Et G 5 m_X3_number [.ref r, .int lo, .int hi] h (numP T f r len e ft dp lo hi a h) (fun c h' => numF T e lo hi a = .inl (skF T e a) ∧ FT f r len e ft (skF T e a) 1 h c h') := by
  have he := t.1
  have hs := sk_le T ha
  have hk := scan_le (p := isFg) (T := T) _ hs
  have o := q.1
  refine wc_in mt_X3_number rfl (L := [.ref r, .int lo, .int hi]) rfl ?_
  refine r_aload_0 rfl ?_
  refine r_iload_1 rfl ?_
  refine r_iload_2 rfl ?_
  refine r_push rfl ?_
  refine r_invv_3 rfl (by assumption) rfl rfl (by decide) (c_figures g w t q ha) ?_
  rintro R (⟨v, h', rfl, x, e1, rfl, q1, f1⟩ | ⟨c, h', rfl, e1, rfl, q1, f1⟩)
  · refine r_iret rfl ?_
    exact Or.inl ⟨_, _, rfl, x, _, e1, rfl, hk, q1, f1⟩
  · exact Or.inr ⟨_, _, rfl, e1, rfl, ⟨_, _, q1⟩, f1⟩
theorem c_goesDeeper (g : GT G) (w : HW h) {b : Nat} {D : Nat} (hD : D ≤ 6) (q : RS h r f len e at_ (nI b) ft (nI (6 - D))) : Etn G 4 m_X3_goesDeeper [.ref r] h (fun h' => D ≠ 0 ∧ RS h' r f len e at_ (nI b) ft (nI (6 - (D - 1))) ∧ HF (isR r) 0 0 h h') (fun c h' => D = 0 ∧ FT f r len e ft b 1 h c h') := by
  have q0 := q
  obtain ⟨o, o1⟩ := q
  refine wc_in mt_X3_goesDeeper rfl (L := [.ref r]) rfl ?_
  refine r_aload_0 rfl ?_
  refine r_getf rfl (by assumption) (by rfl) ?_
  refine r_push rfl ?_
  refine r_icne rfl (fun c_6 => ?_) (fun c_6 => ?_)
  · refine r_aload_0 rfl ?_
    refine r_dupR rfl ?_
    refine r_getf rfl (by assumption) (by rfl) ?_
    refine r_push rfl ?_
    refine r_iadd rfl ?_
    refine r_puti rfl (by assumption) rfl ?_
    refine r_vret rfl ?_
    have z : D ≠ 0 := fun z => c_6 (by rw [z]; rfl)
    refine Or.inl ⟨_, rfl, z, ?_, HF.set w o⟩
    rw [nI_1, show 6 - D + 1 = 6 - (D - 1) by omega]
    exact q0.set
  · refine r_aload_0 rfl ?_
    refine r_invvE rfl rfl (by assumption) rfl rfl (by decide) (c_wrong (P := fun _ => False) (by assumption) (by assumption)) ?_
    intro v10 h10 q10; obtain ⟨e10, ⟨fs10, o10⟩, f10⟩ := q10; subst e10; have w10 := f10.w
    refine r_athrow rfl (o10) rfl rfl ?_
    have z : 6 - D = 6 := (nI_eq (a := 6 - D) (b := 6) (by omega) (by decide)).mp (c_6)
    exact Or.inr ⟨_, _, rfl, by omega, rfl, ⟨_, _, q0.keep f10 (fun z => z) (fun z => z)⟩, (f10.mono (fun _ z => z.elim) (by decide) (by decide))⟩
end
