/-! WORDS: toString, Reader.word, Reader.passes; length, charAt, hashCode of a string -/
set_option maxRecDepth 100000
/-- a string that was built -/
def S7 (h : am_H) (s : Nat) (w : List Int32) : Prop := ∃ (a : Nat) (f : Nat → Int32), h.1 s = some (.inr (7, [.ref a, .int 0, .int 0, .int 0])) ∧ h.1 a = some (.inl (2, w.length, .inl f)) ∧ (∀ i, i < w.length → f i = w.getD i 0) ∧ w.length ≤ 400
section
variable {h h0 h1 : am_H} {G : am_G} {b vb n k s : Nat} {f : Nat → Int32} {w : List Int32}
theorem S7.sa (q : S7 h s w) : SA h s w := by
  obtain ⟨a, f, q1, q2, q3, q4⟩ := q
  exact ⟨7, a, 2, f, 0, 0, q1, Or.inl rfl, q2, Or.inl rfl, q3, q4⟩
theorem c_sbLen (o : ∃ x y z, h.1 b = some (.inr (6, [x, y, z, .int (nI n)]))) : Vc G 1 m_J4_length [.ref b] h (.int (nI n)) := by
  obtain ⟨x, y, z, o⟩ := o
  have c : Vc G 0 m_J3_length [.ref b] h (.int (nI n)) := by
    refine wc_in mt_J3_length rfl (L := [.ref b]) rfl ?_
    refine r_aload_0 rfl ?_
    refine r_getf rfl (by assumption) (by rfl) ?_
    refine r_iret rfl ?_
    rfl
  refine wc_in mt_J4_length rfl (L := [.ref b]) rfl ?_
  refine r_aload_0 rfl ?_
  refine r_invvP_0 rfl (by assumption) rfl rfl (by decide) (c) ?_
  refine r_iret rfl ?_
  rfl
theorem c_getVal (o : ∃ x y z, h.1 b = some (.inr (6, [.ref vb, x, y, z]))) : Vc G 0 m_J3_getValue [.ref b] h (.ref vb) := by
  obtain ⟨x, y, z, o⟩ := o
  refine wc_in mt_J3_getValue rfl (L := [.ref b]) rfl ?_
  refine r_aload_0 rfl ?_
  refine r_getf rfl (by assumption) (by rfl) ?_
  refine r_aret rfl ?_
  rfl
theorem am_set_new {a : Nat} {e e' : am_C} {n : Nat} (h : am_H) (q : a = h.2.1) : am_set (am_new h e n) a e' = am_new h e' n := by
  subst q
  unfold am_set am_new
  simp only [Prod.mk.injEq, and_true]
  funext x
  by_cases z : x = h.2.1
  · rw [if_pos z, if_pos z]
  · rw [if_neg z, if_neg z, if_neg z]
theorem c_cpRangeB (w0 : HW h) {a N : Nat} (o : h.1 a = some (.inl (2, N, .inl f))) (hn : n ≤ N) (hN : N ≤ 1000) : Ev G 1 m_J9_copyOfRangeByte [.ref a, .int 0, .int (nI n)] h (fun v h' => v = .ref h.2.1 ∧ ∃ g, h' = am_new h (.inl (2, n, .inl g)) n ∧ ∀ i, i < n → g i = f i) := by
  have hne : a ≠ h.2.1 := Nat.ne_of_lt (w0 _ _ o)
  have m1 : minF (nI N - 0) (nI n - 0) = nI n := by rw [Int32.sub_zero, Int32.sub_zero]; exact minF_g (nI_le hn (by omega))
  have ck : Vn G 0 m_J9_checkLength [.int 0, .int (nI n)] h := by
    refine wc_in mt_J9_checkLength rfl (L := [.int 0, .int (nI n)]) rfl ?_
    refine r_iload_1 rfl ?_
    refine r_iload_0 rfl ?_
    refine r_icgeT rfl (nI_pos' (by omega)) ?_
    refine r_vret rfl ?_
    rfl
  refine wc_in mt_J9_copyOfRangeByte rfl (L := [.ref a, .int 0, .int (nI n), am_un, am_un]) rfl ?_
  refine r_iload_1 rfl ?_
  refine r_iload_2 rfl ?_
  refine r_invN_2 rfl rfl (by decide) ck ?_
  refine r_iload_2 rfl ?_
  refine r_iload_1 rfl ?_
  refine r_isub rfl ?_
  refine r_istore_3 rfl ?_
  refine r_iload_3 rfl ?_
  refine r_newi rfl (Int32.sub_zero _) (by omega) ?_
  refine r_astore_4 rfl ?_
  refine r_aload_0 rfl ?_
  refine r_iload_1 rfl ?_
  refine r_aload_4 rfl ?_
  refine r_push rfl ?_
  refine r_aload_0 rfl ?_
  refine r_alen rfl ((am_new_ne hne).trans o) ?_
  refine r_iload_1 rfl ?_
  refine r_isub rfl ?_
  refine r_iload_3 rfl ?_
  refine r_invP_2 rfl rfl (by decide) (c_min _ _) ?_
  refine r_copy rfl rfl ((am_new_ne hne).trans o) am_new_at (show (0 : Int32) = nI 0 from rfl) (show (0 : Int32) = nI 0 from rfl) m1 (by omega) (by omega) (by omega) (by omega) rfl ?_
  refine r_aload_4 rfl ?_
  refine r_aret rfl ?_
  refine ⟨_, _, rfl, rfl, _, am_set_new h rfl, fun i hi => ?_⟩
  unfold va_cpy
  rw [if_pos ⟨Nat.zero_le _, by omega⟩]
  congr 1
  omega
theorem c_cpRange (w0 : HW h) {a N : Nat} (o : h.1 a = some (.inl (2, N, .inl f))) (hn : n ≤ N) (hN : N ≤ 1000) : Ev G 2 m_J9_copyOfRange [.ref a, .int 0, .int (nI n)] h (fun v h' => v = .ref h.2.1 ∧ ∃ g, h' = am_new h (.inl (2, n, .inl g)) n ∧ ∀ i, i < n → g i = f i) := by
  have dn := nI_eq (a := n) (b := N) (by omega) (by omega)
  refine wc_in mt_J9_copyOfRange rfl (L := [.ref a, .int 0, .int (nI n)]) rfl ?_
  refine r_iload_1 rfl ?_
  refine r_ifneF rfl rfl ?_
  refine r_iload_2 rfl ?_
  refine r_aload_0 rfl ?_
  refine r_alen rfl o ?_
  refine r_iceq rfl (fun c => ?_) (fun c => ?_)
  · have e1 := dn.mp c
    subst e1
    refine r_aload_0 rfl ?_
    refine r_clone rfl o rfl rfl ?_
    refine r_casta rfl am_new_at rfl ?_
    refine r_aret rfl ?_
    exact ⟨_, _, rfl, rfl, f, rfl, fun _ _ => rfl⟩
  · refine r_aload_0 rfl ?_
    refine r_iload_1 rfl ?_
    refine r_iload_2 rfl ?_
    refine r_invE rfl rfl rfl (by decide) (c_cpRangeB w0 o hn hN) ?_
    rintro v h' ⟨rfl, q1⟩
    refine r_aret rfl ?_
    exact ⟨_, _, rfl, rfl, q1⟩
/-- toString of what a builder holds -/
theorem c_toString (w0 : HW h0) (q : SBI h0 h b n k f) (hw : w.length = n) (hf : ∀ i, i < n → f i = w.getD i 0) (hn : n ≤ 400) : Ev G 5 m_J4_toString [.ref b] h (fun v h' => ∃ s, v = .ref s ∧ h0.2.1 ≤ s ∧ S7 h' s w ∧ HF (fun _ => False) (k + 4) (csF k + 8 + n) h0 h') := by
  obtain ⟨vb, ⟨o, o1, hnk, hk5⟩, hb, hv, F, -⟩ := q
  have hcp : cpF k ≤ cpF 5 := cp_le hk5
  have hc5 : cpF 5 = 574 := rfl
  have hs0 := F.z
  have o2 := am_new_k (n := 4) (e := .inr (7, [.null, .int 0, .int 0, .int 0])) F.w o
  have p2 := am_new_k (n := 4) (e := .inr (7, [.null, .int 0, .int 0, .int 0])) F.w o1
  have w2 := (HF.new (n := 4) (e := .inr (7, [.null, .int 0, .int 0, .int 0])) F.w).w
  have hbs : b ≠ h.2.1 := Nat.ne_of_lt (F.w _ _ o)
  have hvs : vb ≠ h.2.1 := Nat.ne_of_lt (F.w _ _ o1)
  have key : En G 3 m_J5_init_2 [.ref h.2.1, .ref b, .null] (am_new h (.inr (7, [.null, .int 0, .int 0, .int 0])) 4) (fun h' => S7 h' h.2.1 w ∧ HF (fun _ => False) (k + 4) (csF k + 8 + n) h0 h') := by
    refine wc_in mt_J5_init_2 rfl (L := [.ref h.2.1, .ref b, .null, am_un, am_un]) rfl ?_
    refine r_aload_0 rfl ?_
    refine r_oinit rfl rfl ?_
    refine r_aload_1 rfl ?_
    refine r_invvP_0 rfl o2 rfl rfl (e := 0) (by decide) (c_getVal ⟨_, _, _, o2⟩) ?_
    refine r_astore_3 rfl ?_
    refine r_aload_1 rfl ?_
    refine r_invvP_0 rfl o2 rfl rfl (e := 1) (by decide) (c_sbLen ⟨_, _, _, o2⟩) ?_
    refine r_istore_4 rfl ?_
    refine r_aload_1 rfl ?_
    refine r_invvP_0 rfl o2 rfl rfl (e := 0) (by decide) (c_isL1 ⟨_, _, _, o2⟩) ?_
    refine r_ifeqF rfl (by decide) ?_
    refine r_aload_0 rfl ?_
    refine r_push rfl ?_
    refine r_putb rfl am_new_at (Or.inl rfl) rfl ?_
    refine r_aload_0 rfl ?_
    refine r_aload_3 rfl ?_
    refine r_push rfl ?_
    refine r_iload_4 rfl ?_
    rw [am_set_new h rfl]
    have w3 := (HF.new (n := 4) (e := .inr (7, am_st [.null, .int 0, .int 0, .int 0] 1 (.int 0))) F.w).w
    refine r_invE rfl rfl rfl (by decide) (c_cpRange w3 (am_new_k F.w o1) hnk (by omega)) ?_
    rintro v h' ⟨rfl, g, rfl, hg⟩
    have o5 : (am_new (am_new h (.inr (7, am_st [.null, .int 0, .int 0, .int 0] 1 (.int 0))) 4) (.inl (2, n, .inl g)) n).1 h.2.1 = some (.inr (7, am_st [.null, .int 0, .int 0, .int 0] 1 (.int 0))) := am_new_k w3 am_new_at
    refine r_puta rfl o5 rfl ?_
    refine r_goto rfl ?_
    refine r_vret rfl ?_
    refine ⟨_, rfl, ⟨_, g, am_set_at, am_set_k (by rw [hw]; exact am_new_at) (Nat.ne_of_gt (Nat.lt_succ_self _)), fun i hi => ?_, by omega⟩, ?_⟩
    · rw [hg i (by omega)]; exact hf i (by omega)
    · refine HF.setN ?_ o5 w0 hs0
      exact ((HF.newN (HF.newN F))).mono (fun _ y => y) (by omega) (by omega)
  refine wc_in mt_J4_toString rfl (L := [.ref b]) rfl ?_
  refine r_new rfl rfl ?_
  refine r_dupR rfl ?_
  refine r_aload_0 rfl ?_
  refine r_inviF rfl rfl rfl (e := 4) (by decide) (Φn := fun h' => S7 h' h.2.1 w ∧ HF (fun _ => False) (k + 4) (csF k + 8 + n) h0 h') ?_ ?_
  · refine wc_in mt_J5_init rfl (L := [.ref h.2.1, .ref b]) rfl ?_
    refine r_aload_0 rfl ?_
    refine r_aload_1 rfl ?_
    refine r_push rfl ?_
    refine r_inviF rfl rfl rfl (by decide) (key) ?_
    intro h9 q9
    refine r_vret rfl ?_
    exact ⟨_, rfl, q9⟩
  · rintro h' ⟨q1, q2⟩
    refine r_aret rfl ?_
    exact ⟨_, _, rfl, _, rfl, hs0, q1, q2⟩
section
variable {T : Nat → Int32} {e len r : Nat} {at_ bg ft dp : Int32}
theorem subF_len (T : Nat → Int32) : ∀ n b, (subF T b n).length = n
  | 0, _ => rfl
  | n + 1, b => by rw [subF, List.length_cons, subF_len T n]
theorem subF_get (T : Nat → Int32) : ∀ n b i, i < n → (subF T b n).getD i 0 = T (b + i)
  | n + 1, b, 0, _ => rfl
  | n + 1, b, i + 1, h => by
    rw [subF, List.getD_cons_succ, subF_get T n (b + 1) i (by omega)]
    congr 1; omega
theorem lt_val (t : TX T f e) {a : Nat} (ha : a < e) (hp : isLt (T a) = true) : ∃ x, x < 128 ∧ T a = nI x ∧ f a = nI x := by
  have he := t.1
  obtain ⟨⟨q, hq, hT⟩, hf⟩ := t.2 a (by omega)
  rw [hT] at hp hf
  simp only [isLt, inF, Bool.and_eq_true, decide_eq_true_eq] at hp
  have := (nI_leI (by omega) (by omega)).mp (show nI q ≤ nI 122 from hp.2)
  exact ⟨q, by omega, hT, hf.trans ((sbI_a q hq).1 (by omega))⟩
theorem rb_lt (t : TX T f e) {a : Nat} : inF (rbF T e a) 97 122 = (decide (a < e) && isLt (T a)) := rb_in t (by decide) (by decide)
/-- what a word answers -/
def wordQ (T f : Nat → Int32) (r len e : Nat) (ft dp : Int32) (b k : Nat) (h0 : am_H) (R : am_O) : Prop := ∃ v h', R = .inl (some v, h') ∧ ∃ s, v = .ref s ∧ h0.2.1 ≤ s ∧ S7 h' s (subF T b (k - b)) ∧ RS h' r f len e (nI k) (nI b) ft dp ∧ HC (isR r) 1 h0 h'
/-- the word's letters, into a builder -/
theorem c_wordE (w0 : HW h0) (t : TX T f e) {b k : Nat} (hb : b ≤ k) (hk : k ≤ e) (hl : ∀ i, b ≤ i → i < k → isLt (T i) = true) (q : RS h r f len e (nI k) (nI b) ft dp) (F : HF (isR r) 0 0 h0 h) : Wp G 8 mt_X3_word 35 [.ref r, am_un, am_un] [] h (wordQ T f r len e ft dp b k h0) := by
  have he := t.1
  have w := F.w
  have hz := F.z
  have F1 := HF.new (n := 4) (e := .inr (6, [.null, .int 0, .int 0, .int 0])) w
  refine r_new rfl rfl ?_
  refine r_dupR rfl ?_
  refine r_inviF rfl rfl rfl (by decide) (c_sbInit F1.w am_new_at) ?_
  rintro h1 ⟨sb, F2⟩
  refine r_astore_1 rfl ?_
  have F3 : HF (fun _ => False) 2 20 h h1 := ⟨F2.w, fun a x p y => F2.k (am_new_k w y) (Nat.ne_of_lt (w a x y)), ⟨Nat.le_trans F1.2.2.1.1 F2.2.2.1.1, by have := F1.2.2.1.2; have := F2.2.2.1.2; omega⟩, ⟨Nat.le_trans F1.2.2.2.1 F2.2.2.2.1, by have := F1.2.2.2.2; have := F2.2.2.2.2; omega⟩⟩
  have q1 := q.keep F3 (fun z => z) (fun z => z)
  have o1 := q1.1
  refine r_aload_0 rfl ?_
  refine r_getf rfl o1 rfl ?_
  refine r_istore_2 rfl ?_
  refine wp_forHK (k - b) (fun j => [.ref r, .ref h.2.1, .int (nI (b + j))]) (fun j h' => ∃ kk g, SBI h h' h.2.1 j kk g ∧ ∀ i, i < j → g i = T (b + i)) (fun j h' hj hK kont => ?_) (fun h' hK => ?_) ?_
  · obtain ⟨kk, g, sbi, hg⟩ := hK
    have sbi0 := sbi
    obtain ⟨vb, ⟨p, p1, -⟩, -, -, F4, -⟩ := sbi
    have q2 := q.keep F4 (fun z => z) (fun z => z)
    obtain ⟨o2, t2⟩ := q2
    obtain ⟨x, hx, e1, e2⟩ := lt_val t (a := b + j) (by omega) (hl _ (by omega) (by omega))
    refine r_iload_2 rfl ?_
    refine r_aload_0 rfl ?_
    refine r_getf rfl o2 rfl ?_
    refine r_icgeF rfl (nI_lt (by omega) (by omega)) ?_
    refine r_aload_1 rfl ?_
    refine r_aload_0 rfl ?_
    refine r_getf rfl o2 rfl ?_
    refine r_iload_2 rfl ?_
    refine r_bald rfl t2 rfl (by omega) (by decide) ?_
    refine r_i2c rfl ?_
    rw [e2, (nar_a x hx).2.1]
    refine r_invvE rfl rfl p rfl rfl (by decide) (c_append4 w sbi0 (by omega) hx) ?_
    rintro v h2 ⟨rfl, k2, g2, s2, hg2, hn2⟩
    refine r_popR rfl ?_
    refine r_iinc_2 rfl ?_
    refine r_goto rfl ?_
    rw [nI_1, show b + j + 1 = b + (j + 1) by omega]
    refine kont h2 ⟨k2, g2, s2, fun i hi => ?_⟩
    by_cases z : i = j
    · rw [z, hn2, e1]
    · rw [hg2 i (by omega)]; exact hg i (by omega)
  · obtain ⟨kk, g, sbi, hg⟩ := hK
    have sbi0 := sbi
    obtain ⟨vb, ⟨p, p1, -, hk5⟩, -, -, F4, -⟩ := sbi
    have q2 := q.keep F4 (fun z => z) (fun z => z)
    have o2 := q2.1
    rw [show b + (k - b) = k by omega]
    have cs : csF kk ≤ 1122 := by
      rcases (show kk = 0 ∨ kk = 1 ∨ kk = 2 ∨ kk = 3 ∨ kk = 4 ∨ kk = 5 by omega) with rfl | rfl | rfl | rfl | rfl | rfl <;> decide
    refine r_iload_2 rfl ?_
    refine r_aload_0 rfl ?_
    refine r_getf rfl o2 rfl ?_
    refine r_icgeT rfl (Int32.le_refl _) ?_
    refine r_aload_1 rfl ?_
    refine r_invvE rfl rfl p rfl rfl (by decide) (c_toString w sbi0 (subF_len T _ _) (fun i hi => (hg i hi).trans (subF_get T _ _ i hi).symm) (by omega)) ?_
    rintro v h2 ⟨s, rfl, hs, hS, F5⟩
    refine r_aret rfl ?_
    exact ⟨_, _, rfl, s, rfl, by omega, hS, q.keep F5 (fun z => z) (fun z => z), (F.trans (F5.mono (fun _ z => z.elim) (Nat.le_refl _) (Nat.le_refl _))).mono (fun _ z => z) (by omega) (by omega)⟩
  · exact ⟨0, _, ⟨_, sb, Nat.le_refl _, F1.z, F3.mono (fun _ z => z) (by decide) (by decide), Or.inl rfl⟩, fun i hi => absurd hi (by omega)⟩
theorem c_wordL (w0 : HW h0) (t : TX T f e) {b : Nat} : ∀ a, ∀ h, b ≤ a → a ≤ e → (∀ i, b ≤ i → i < a → isLt (T i) = true) → RS h r f len e (nI a) (nI b) ft dp → HF (isR r) 0 0 h0 h → Wp G 8 mt_X3_word 4 [.ref r, am_un, am_un] [] h (wordQ T f r len e ft dp b (weF T e a) h0) := by
  have he := t.1
  refine scan_ind (p := isLt) (T := T) (e := e) (fun a ha hp ih => ?_) (fun a ha => ?_)
  · intro h hb hae hl q F
    have q0 := q
    obtain ⟨o, o1⟩ := q
    have e1 : weF T e a = weF T e (a + 1) := scan_step ha hp
    have ef : inF (rbF T e a) 97 122 = true := by rw [rb_lt t, decide_eq_true ha, hp]; rfl
    refine r_aload_0 rfl ?_
    refine r_aload_0 rfl ?_
    refine r_getf rfl (by assumption) (by rfl) ?_
    refine r_invvP_1 rfl (by assumption) rfl rfl (by decide) (c_byteAt (by assumption) (by assumption) (by omega)) ?_
    refine r_push rfl ?_
    refine r_push rfl ?_
    refine r_invP_3 rfl rfl (by decide) (c_in _ _ _) ?_
    refine r_ifeqF rfl (by rw [ef]; decide) ?_
    refine r_aload_0 rfl ?_
    refine r_dupR rfl ?_
    refine r_getf rfl (by assumption) (by rfl) ?_
    refine r_push rfl ?_
    refine r_iadd rfl ?_
    refine r_puti rfl (by assumption) rfl ?_
    refine r_goto rfl ?_
    rw [e1, nI_1]
    refine ih _ (by omega) (by omega) (fun i h1 h2 => ?_) q0.set (HF.setP F o rfl)
    by_cases z : i = a
    · rw [z]; exact hp
    · exact hl i h1 (by omega)
  · intro h hb hae hl q F
    have q0 := q
    obtain ⟨o, o1⟩ := q
    have e1 : weF T e a = a := scan_stop ha
    have ef : inF (rbF T e a) 97 122 = false := by
      rw [rb_lt t]
      by_cases z : a < e
      · rw [ha z, Bool.and_false]
      · rw [decide_eq_false z, Bool.false_and]
    rw [e1]
    refine r_aload_0 rfl ?_
    refine r_aload_0 rfl ?_
    refine r_getf rfl (by assumption) (by rfl) ?_
    refine r_invvP_1 rfl (by assumption) rfl rfl (by decide) (c_byteAt (by assumption) (by assumption) (by omega)) ?_
    refine r_push rfl ?_
    refine r_push rfl ?_
    refine r_invP_3 rfl rfl (by decide) (c_in _ _ _) ?_
    refine r_ifeqT rfl (by rw [ef]; rfl) ?_
    exact c_wordE w0 t hb hae hl q0 F
theorem c_word (w : HW h) (t : TX T f e) {a : Nat} (q : RS h r f len e (nI a) bg ft dp) (ha : a ≤ e) : Ev G 8 m_X3_word [.ref r] h (fun v h' => ∃ s, v = .ref s ∧ h.2.1 ≤ s ∧ S7 h' s (subF T (skF T e a) (wbF T e a - skF T e a)) ∧ RS h' r f len e (nI (wbF T e a)) (nI (skF T e a)) ft dp ∧ HC (isR r) 1 h h') := by
  have hs := sk_le T ha
  have o := q.1
  refine wc_in mt_X3_word rfl (L := [.ref r, am_un, am_un]) rfl ?_
  refine r_aload_0 rfl ?_
  refine r_invvF rfl rfl (by assumption) rfl rfl (by decide) (c_blanks0 (by assumption) (by assumption) (by assumption) (by assumption)) ?_
  intro h1 q1; obtain ⟨q1, f1⟩ := q1; have o1 := q1.1; have oo1 := q1.2; have w1 := f1.w
  exact c_wordL w t (b := skF T e a) _ _ (Nat.le_refl _) hs (fun i h1 h2 => absurd h1 (by omega)) q1 f1
theorem wb_le (T : Nat → Int32) {e a : Nat} (h : a ≤ e) : wbF T e a ≤ e := scan_le _ (sk_le T h)
theorem wb_ge (T : Nat → Int32) (e a : Nat) : skF T e a ≤ wbF T e a := scan_ge _
/-- whether a word comes next; then it is passed -/
theorem c_passes (w : HW h) (t : TX T f e) {a : Nat} (q : RS h r f len e (nI a) bg ft dp) (ha : a ≤ e) {v : Nat} {ws : List Int32} (hv : SA h v ws) (hr : v ≠ r) : Ev G 9 m_X3_passes [.ref r, .ref v] h (fun v h' => v = .int (bI (wdF T e a ws)) ∧ RS h' r f len e (nI (if wdF T e a ws = true then wbF T e a else skF T e a)) (nI (skF T e a)) ft dp ∧ HC (isR r) 1 h h') := by
  have o := q.1
  refine wc_in mt_X3_passes rfl (L := [.ref r, .ref v]) rfl ?_
  refine r_aload_0 rfl ?_
  refine r_invvE rfl rfl o rfl rfl (by decide) (c_word w t q ha) ?_
  rintro v1 h1 ⟨s, rfl, hs, hS, q1, F⟩
  have hv1 := hv.keep F (fun a x y z n u => by rintro rfl; rw [show a = r from z, o] at y; cases y) (fun z => hr z)
  obtain ⟨sa, sf, os, -⟩ := id hS
  refine r_aload_1 rfl ?_
  refine r_invvP_1 rfl os rfl rfl (by decide) (c_equals hS.sa hv1) ?_
  have o1 := q1.1
  refine r_ifeq rfl (fun c_8 => ?_) (fun c_8 => ?_)
  · refine r_aload_0 rfl ?_
    refine r_aload_0 rfl ?_
    refine r_getf rfl (by assumption) (by rfl) ?_
    refine r_puti rfl (by assumption) rfl ?_
    refine r_push rfl ?_
    refine r_zret rfl (by first | decide | assumption) ?_
    have e1 : wdF T e a ws = false := bI_0.mp c_8
    exact ⟨_, _, rfl, by rw [e1]; rfl, by rw [e1]; exact q1.set, HF.setP F o1 rfl⟩
  · refine r_push rfl ?_
    refine r_zret rfl (by first | decide | assumption) ?_
    have e1 : wdF T e a ws = true := bI_n0.mp c_8
    exact ⟨_, _, rfl, by rw [e1]; rfl, by rw [e1, if_pos rfl]; exact q1, F⟩
end
end
