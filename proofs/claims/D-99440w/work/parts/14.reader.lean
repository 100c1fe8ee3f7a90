/-! READER: its cell, its bytes; the methods that read no word -/
set_option maxRecDepth 100000
def sbI (x : Int32) : Int32 := x.toInt8.toInt32
/-- a byte, as a number from 0 to 255 -/
def BT (x : Int32) : Prop := ∃ q : Nat, q < 256 ∧ x = nI q
theorem sbI_a : ∀ q, q < 256 → (q < 128 → sbI (nI q) = nI q) ∧ (128 ≤ q → sbI (nI q) < 0) := by decide +kernel
theorem sbI_eq {x c : Int32} (hx : BT x) (hc : BT c) (h8 : c ≤ 127) : sbI x = c ↔ x = c := by
  obtain ⟨q, hq, rfl⟩ := hx
  obtain ⟨k, hk, rfl⟩ := hc
  have hk8 : k ≤ 127 := (nI_leI (by omega) (by omega)).mp (show nI k ≤ nI 127 from h8)
  obtain ⟨h1, h2⟩ := sbI_a q hq
  by_cases z : q < 128
  · rw [h1 z]
  · have n := h2 (by omega)
    constructor
    · intro e
      rw [e] at n
      exact absurd n (nI_pos (by omega))
    · intro e
      exact absurd ((nI_eq (by omega) (by omega)).mp e) (by omega)
theorem sbI_in {x lo hi : Int32} (hx : BT x) (h0 : 0 ≤ lo) (h8 : hi ≤ 127) : inF (sbI x) lo hi = inF x lo hi := by
  obtain ⟨q, hq, rfl⟩ := hx
  obtain ⟨h1, h2⟩ := sbI_a q hq
  by_cases z : q < 128
  · rw [h1 z]
  · have n := h2 (by omega)
    rw [inF_l (Int32.lt_of_lt_of_le n h0), inF_h (Int32.lt_of_le_of_lt h8 (show nI 127 < nI q from nI_lt (by omega) (by omega)))]
/-- the text T of e bytes is what the tape f holds -/
def TX (T f : Nat → Int32) (e : Nat) : Prop := e ≤ 400 ∧ ∀ k, k < 400 → BT (T k) ∧ f k = sbI (T k)
def robj (r len e : Nat) (at_ bg ft dp : Int32) : List Value := [.ref (r + 1), .int (nI len), .int (nI e), .int at_, .int bg, .int ft, .int dp]
def rtape (f : Nat → Int32) : am_C := .inl (2, 400, .inl f)
/-- the reader at r -/
def RS (h : am_H) (r : Nat) (f : Nat → Int32) (len e : Nat) (at_ bg ft dp : Int32) : Prop := h.1 r = some (.inr (2, robj r len e at_ bg ft dp)) ∧ h.1 (r + 1) = some (.inl (2, 400, .inl f))
def isR (r : Nat) : Nat → Prop := fun a => a = r
/-- the byte at k, -1 behind the end -/
def rbF (T : Nat → Int32) (e k : Nat) : Int32 := if k < e then sbI (T k) else -1
section
variable {T f : Nat → Int32} {e len r : Nat} {at_ bg ft dp : Int32} {h h0 : am_H} {G : am_G}
theorem RS.set (q : RS h r f len e at_ bg ft dp) {len' e' : Nat} {at' bg' ft' dp' : Int32} : RS (am_set h r (.inr (2, robj r len' e' at' bg' ft' dp'))) r f len' e' at' bg' ft' dp' := ⟨am_set_at, am_set_k q.2 (by omega)⟩
theorem RS.hf (q : RS h r f len e at_ bg ft dp) (w : HW h) {x : am_C} : HF (isR r) 0 0 h (am_set h r x) := HF.set w q.1
theorem rb_eq (t : TX T f e) {k : Nat} {c : Int32} (hc : BT c) (h8 : c ≤ 127) : rbF T e k = c ↔ (k < e ∧ T k = c) := by
  unfold rbF
  by_cases z : k < e
  · rw [if_pos z, sbI_eq (t.2 k (by have := t.1; omega)).1 hc h8]
    exact ⟨fun q => ⟨z, q⟩, fun q => q.2⟩
  · rw [if_neg z]
    obtain ⟨q, hq, rfl⟩ := hc
    exact ⟨fun p => absurd (show nI q < 0 by rw [← p]; decide) (nI_pos (by omega)), fun p => absurd p.1 z⟩
theorem rb_in (t : TX T f e) {k : Nat} {lo hi : Int32} (h0 : 0 ≤ lo) (h8 : hi ≤ 127) : inF (rbF T e k) lo hi = (decide (k < e) && inF (T k) lo hi) := by
  unfold rbF
  by_cases z : k < e
  · rw [if_pos z, sbI_in (t.2 k (by have := t.1; omega)).1 h0 h8, decide_eq_true z, Bool.true_and]
  · rw [if_neg z, decide_eq_false z, Bool.false_and, inF_l (Int32.lt_of_lt_of_le (by decide) h0)]
theorem c_byteAt (q : RS h r f len e at_ bg ft dp) (t : TX T f e) {k : Nat} (hk : k ≤ 400) : Vc G 0 m_X3_byteAt [.ref r, .int (nI k)] h (.int (rbF T e k)) := by
  obtain ⟨o, o1⟩ := q
  have he := t.1
  refine wc_in mt_X3_byteAt rfl (L := [.ref r, .int (nI k)]) rfl ?_
  by_cases hz : k < e
  · refine r_iload_1 rfl ?_
    refine r_aload_0 rfl ?_
    refine r_getf rfl (by assumption) (by rfl) ?_
    refine r_icgeF rfl (nI_lt hz (by omega)) ?_
    refine r_aload_0 rfl ?_
    refine r_getf rfl (by assumption) (by rfl) ?_
    refine r_iload_1 rfl ?_
    refine r_bald rfl (by assumption) (by rfl) ((by omega)) (by decide) ?_
    refine r_goto rfl ?_
    refine r_iret rfl ?_
    rw [rbF, if_pos hz, (t.2 k (by omega)).2]
  · refine r_iload_1 rfl ?_
    refine r_aload_0 rfl ?_
    refine r_getf rfl (by assumption) (by rfl) ?_
    refine r_icgeT rfl (nI_le (by omega) (by omega)) ?_
    refine r_push rfl ?_
    refine r_iret rfl ?_
    rw [rbF, if_neg hz]
theorem bt32 : BT 32 := ⟨32, by decide, rfl⟩
theorem bl_t (t : TX T f e) {a : Nat} (c : rbF T e a = 32) : a < e ∧ isBl (T a) = true := by
  have := (rb_eq t bt32 (by decide)).mp c
  exact ⟨this.1, by rw [isBl, decide_eq_true this.2]⟩
theorem bl_f (t : TX T f e) {a : Nat} (c : ¬ rbF T e a = 32) : a < e → isBl (T a) = false := fun z => by
  rw [isBl]
  exact decide_eq_false (fun q => c ((rb_eq t bt32 (by decide)).mpr ⟨z, q⟩))
theorem c_blanks (w0 : HW h0) (t : TX T f e) : ∀ a, ∀ h bg, a ≤ e → HF (isR r) 0 0 h0 h → RS h r f len e (nI a) bg ft dp → Wp G 2 mt_X3_blanks 0 [.ref r] [] h (fun R => ∃ h', R = .inl (none, h') ∧ RS h' r f len e (nI (skF T e a)) (nI (skF T e a)) ft dp ∧ HF (isR r) 0 0 h0 h') := by
  have he := t.1
  refine scan_ind (p := isBl) (T := T) (e := e) (fun a ha hp ih => ?_) (fun a ha => ?_)
  · intro h bg hae F q
    have q0 := q
    obtain ⟨o, o1⟩ := q
    refine r_aload_0 rfl ?_
    refine r_aload_0 rfl ?_
    refine r_getf rfl (by assumption) (by rfl) ?_
    refine r_invvP_1 rfl (by assumption) rfl rfl (by decide) (c_byteAt (by assumption) (by assumption) (by omega)) ?_
    refine r_push rfl ?_
    refine r_icneF rfl ((rb_eq t bt32 (by decide)).mpr ⟨ha, of_decide_eq_true hp⟩) ?_
    refine r_aload_0 rfl ?_
    refine r_dupR rfl ?_
    refine r_getf rfl (by assumption) (by rfl) ?_
    refine r_push rfl ?_
    refine r_iadd rfl ?_
    refine r_puti rfl (by assumption) rfl ?_
    refine r_goto rfl ?_
    rw [nI_1]
    unfold skF at ih ⊢
    rw [scan_step ha hp]
    exact ih _ bg (by omega) (HF.setP F o rfl) q0.set
  · intro h bg hae F q
    have q0 := q
    obtain ⟨o, o1⟩ := q
    have e1 : skF T e a = a := scan_stop ha
    rw [e1]
    refine r_aload_0 rfl ?_
    refine r_aload_0 rfl ?_
    refine r_getf rfl (by assumption) (by rfl) ?_
    refine r_invvP_1 rfl (by assumption) rfl rfl (by decide) (c_byteAt (by assumption) (by assumption) (by omega)) ?_
    refine r_push rfl ?_
    refine r_icneT rfl (fun z => absurd (bl_t t z).2 (by rw [ha (bl_t t z).1]; decide)) ?_
    refine r_aload_0 rfl ?_
    refine r_aload_0 rfl ?_
    refine r_getf rfl (by assumption) (by rfl) ?_
    refine r_puti rfl (by assumption) rfl ?_
    refine r_vret rfl ?_
    exact ⟨_, rfl, q0.set, HF.setP F o rfl⟩
theorem c_blanks0 (w : HW h) (t : TX T f e) {a : Nat} (q : RS h r f len e (nI a) bg ft dp) (ha : a ≤ e) : En G 2 m_X3_blanks [.ref r] h (fun h' => RS h' r f len e (nI (skF T e a)) (nI (skF T e a)) ft dp ∧ HF (isR r) 0 0 h h') := by
  refine wc_in mt_X3_blanks rfl (L := [.ref r]) rfl ?_
  exact c_blanks w t a h bg ha (HF.refl w) q
theorem sk_le (T : Nat → Int32) {e a : Nat} (h : a ≤ e) : skF T e a ≤ e := scan_le a h
theorem sk_ge (T : Nat → Int32) (e a : Nat) : a ≤ skF T e a := scan_ge a
theorem c_isOver (w : HW h) (t : TX T f e) {a : Nat} (q : RS h r f len e (nI a) bg ft dp) (ha : a ≤ e) : Ev G 3 m_X3_isOver [.ref r] h (fun v h' => v = .int (bI (decide (skF T e a = e))) ∧ RS h' r f len e (nI (skF T e a)) (nI (skF T e a)) ft dp ∧ HF (isR r) 0 0 h h') := by
  have he := t.1
  have hs := sk_le T ha
  have o := q.1
  refine wc_in mt_X3_isOver rfl (L := [.ref r]) rfl ?_
  refine r_aload_0 rfl ?_
  refine r_invvF rfl rfl (by assumption) rfl rfl (by decide) (c_blanks0 (by assumption) (by assumption) (by assumption) (by assumption)) ?_
  intro h1 q1; obtain ⟨q1, f1⟩ := q1; have o1 := q1.1; have oo1 := q1.2; have w1 := f1.w
  refine r_aload_0 rfl ?_
  refine r_getf rfl (by assumption) (by rfl) ?_
  refine r_aload_0 rfl ?_
  refine r_getf rfl (by assumption) (by rfl) ?_
  refine r_icne rfl (fun c_12 => ?_) (fun c_12 => ?_)
  · refine r_push rfl ?_
    refine r_zret rfl (by first | decide | assumption) ?_
    have d := nI_eq (a := skF T e a) (b := e) (by omega) (by omega)
    refine ⟨_, _, rfl, ?_, q1, f1⟩
    first | (rw [decide_eq_true (d.mp c_12)]; rfl) | (rw [decide_eq_false (fun z => c_12 (d.mpr z))]; rfl)
  · refine r_push rfl ?_
    refine r_goto rfl ?_
    refine r_zret rfl (by first | decide | assumption) ?_
    have d := nI_eq (a := skF T e a) (b := e) (by omega) (by omega)
    refine ⟨_, _, rfl, ?_, q1, f1⟩
    first | (rw [decide_eq_true (d.mp c_12)]; rfl) | (rw [decide_eq_false (fun z => c_12 (d.mpr z))]; rfl)
/-- a sign: what comes next is it, and it is passed -/
theorem c_sign (w : HW h) (t : TX T f e) {a : Nat} (q : RS h r f len e (nI a) bg ft dp) (ha : a ≤ e) {c : Int32} (hc : BT c) (h8 : c ≤ 127) : Ev G 3 m_X3_sign [.ref r, .int c] h (fun v h' => v = .int (bI (sgF T e a c)) ∧ RS h' r f len e (nI (if sgF T e a c = true then skF T e a + 1 else skF T e a)) (nI (skF T e a)) ft dp ∧ HF (isR r) 0 0 h h') := by
  have he := t.1
  have hs := sk_le T ha
  have o := q.1
  refine wc_in mt_X3_sign rfl (L := [.ref r, .int c]) rfl ?_
  refine r_aload_0 rfl ?_
  refine r_invvF rfl rfl (by assumption) rfl rfl (by decide) (c_blanks0 (by assumption) (by assumption) (by assumption) (by assumption)) ?_
  intro h1 q1; obtain ⟨q1, f1⟩ := q1; have o1 := q1.1; have oo1 := q1.2; have w1 := f1.w
  refine r_aload_0 rfl ?_
  refine r_aload_0 rfl ?_
  refine r_getf rfl (by assumption) (by rfl) ?_
  refine r_invvP_1 rfl (by assumption) rfl rfl (by decide) (c_byteAt (by assumption) (by assumption) (by omega)) ?_
  refine r_iload_1 rfl ?_
  refine r_iceq rfl (fun c_13 => ?_) (fun c_13 => ?_)
  · refine r_aload_0 rfl ?_
    refine r_dupR rfl ?_
    refine r_getf rfl (by assumption) (by rfl) ?_
    refine r_push rfl ?_
    refine r_iadd rfl ?_
    refine r_puti rfl (by assumption) rfl ?_
    refine r_push rfl ?_
    refine r_zret rfl (by first | decide | assumption) ?_
    have d := (rb_eq t (k := skF T e a) hc h8).mp c_13
    have e9 : sgF T e a c = true := by unfold sgF; rw [decide_eq_true d.1, decide_eq_true d.2]; rfl
    exact ⟨_, _, rfl, by rw [e9]; rfl, by rw [e9, if_pos rfl, ← nI_1]; exact q1.set, HF.setP f1 o1 rfl⟩
  · refine r_push rfl ?_
    refine r_zret rfl (by first | decide | assumption) ?_
    have d := rb_eq t (k := skF T e a) hc h8
    have e9 : sgF T e a c = false := by
      unfold sgF
      cases z : decide (skF T e a < e) with
      | false => rfl
      | true => rw [Bool.true_and]; exact decide_eq_false (fun z1 => c_13 (d.mpr ⟨of_decide_eq_true z, z1⟩))
    exact ⟨_, _, rfl, by rw [e9]; rfl, by rw [e9]; exact q1, f1⟩
theorem c_isFigure (w : HW h) (t : TX T f e) {a : Nat} (q : RS h r f len e (nI a) bg ft dp) (ha : a ≤ e) : Ev G 3 m_X3_isFigure [.ref r] h (fun v h' => v = .int (bI (isFgF T e a)) ∧ RS h' r f len e (nI (skF T e a)) (nI (skF T e a)) ft dp ∧ HF (isR r) 0 0 h h') := by
  have he := t.1
  have hs := sk_le T ha
  have o := q.1
  refine wc_in mt_X3_isFigure rfl (L := [.ref r]) rfl ?_
  refine r_aload_0 rfl ?_
  refine r_invvF rfl rfl (by assumption) rfl rfl (by decide) (c_blanks0 (by assumption) (by assumption) (by assumption) (by assumption)) ?_
  intro h1 q1; obtain ⟨q1, f1⟩ := q1; have o1 := q1.1; have oo1 := q1.2; have w1 := f1.w
  refine r_aload_0 rfl ?_
  refine r_aload_0 rfl ?_
  refine r_getf rfl (by assumption) (by rfl) ?_
  refine r_invvP_1 rfl (by assumption) rfl rfl (by decide) (c_byteAt (by assumption) (by assumption) (by omega)) ?_
  refine r_push rfl ?_
  refine r_push rfl ?_
  refine r_invP_3 rfl rfl (by decide) (c_in _ _ _) ?_
  refine r_zret rfl (bI_01 _) ?_
  refine ⟨_, _, rfl, ?_, q1, f1⟩
  rw [rb_in t (by decide) (by decide)]; rfl
theorem c_begins (w : HW h) (q : RS h r f len e at_ bg ft dp) : En G 0 m_X3_begins [.ref r] h (fun h' => RS h' r f 0 len 0 bg ft 0 ∧ HF (isR r) 0 0 h h') := by
  have o := q.1
  refine wc_in mt_X3_begins rfl (L := [.ref r]) rfl ?_
  refine r_aload_0 rfl ?_
  refine r_aload_0 rfl ?_
  refine r_getf rfl (by assumption) (by rfl) ?_
  refine r_puti rfl (o) rfl ?_
  refine r_aload_0 rfl ?_
  refine r_push rfl ?_
  refine r_puti rfl (am_set_at) rfl ?_
  refine r_aload_0 rfl ?_
  refine r_push rfl ?_
  refine r_puti rfl (am_set_at) rfl ?_
  refine r_aload_0 rfl ?_
  refine r_push rfl ?_
  refine r_puti rfl (am_set_at) rfl ?_
  refine r_vret rfl ?_
  refine ⟨_, rfl, ?_, ?_⟩
  · simp only [am_set_set]; exact q.set
  · simp only [am_set_set]; exact HF.set w o
theorem c_cut (w : HW h) (q : RS h r f len e at_ bg ft dp) (hl : len ≤ 400) (n : Int32) : Ev G 0 m_X3_cut [.ref r, .int n] h (fun v h' => v = .int (bI (inF n 0 (nI len))) ∧ RS h' r f (if inF n 0 (nI len) = true then n.toNatClampNeg else len) e at_ bg ft dp ∧ HF (isR r) 0 0 h h') := by
  have o := q.1
  refine wc_in mt_X3_cut rfl (L := [.ref r, .int n]) rfl ?_
  refine r_iload_1 rfl ?_
  refine r_iflt rfl (fun c_1 => ?_) (fun c_1 => ?_)
  · refine r_push rfl ?_
    refine r_zret rfl (by first | decide | assumption) ?_
    first | (have e9 : inF n 0 (nI len) = false := inF_l c_1; exact ⟨_, _, rfl, by rw [e9]; rfl, by rw [e9]; exact q, HF.refl w⟩) | (have e9 : inF n 0 (nI len) = false := inF_h c_9; exact ⟨_, _, rfl, by rw [e9]; rfl, by rw [e9]; exact q, HF.refl w⟩)
  · refine r_iload_1 rfl ?_
    refine r_aload_0 rfl ?_
    refine r_getf rfl (by assumption) (by rfl) ?_
    refine r_icle rfl (fun c_9 => ?_) (fun c_9 => ?_)
    · refine r_aload_0 rfl ?_
      refine r_iload_1 rfl ?_
      refine r_puti rfl (by assumption) rfl ?_
      refine r_push rfl ?_
      refine r_zret rfl (by first | decide | assumption) ?_
      have e9 : inF n 0 (nI len) = true := inF_t c_1 c_9
      obtain ⟨j, hj, rfl⟩ := nI_of (Int32.not_lt.mpr c_1)
      exact ⟨_, _, rfl, by rw [e9]; rfl, by rw [e9, if_pos rfl, nI_clamp hj]; exact q.set, HF.set w o⟩
    · refine r_push rfl ?_
      refine r_zret rfl (by first | decide | assumption) ?_
      first | (have e9 : inF n 0 (nI len) = false := inF_l c_1; exact ⟨_, _, rfl, by rw [e9]; rfl, by rw [e9]; exact q, HF.refl w⟩) | (have e9 : inF n 0 (nI len) = false := inF_h c_9; exact ⟨_, _, rfl, by rw [e9]; rfl, by rw [e9]; exact q, HF.refl w⟩)
theorem c_comesUp (w : HW h) (q : RS h r f len e at_ bg ft dp) : En G 0 m_X3_comesUp [.ref r] h (fun h' => RS h' r f len e at_ bg ft (dp - 1) ∧ HF (isR r) 0 0 h h') := by
  have o := q.1
  refine wc_in mt_X3_comesUp rfl (L := [.ref r]) rfl ?_
  refine r_aload_0 rfl ?_
  refine r_dupR rfl ?_
  refine r_getf rfl (by assumption) (by rfl) ?_
  refine r_push rfl ?_
  refine r_isub rfl ?_
  refine r_puti rfl (by assumption) rfl ?_
  refine r_vret rfl ?_
  exact ⟨_, rfl, q.set, HF.set w o⟩
end
