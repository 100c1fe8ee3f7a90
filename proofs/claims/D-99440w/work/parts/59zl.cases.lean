/-! SCALES: what was told, cases that can be -/
set_option maxRecDepth 100000
/-- a byte of the tape, as a number -/
def tN (T : Nat → Int32) (k : Nat) : Nat := (T k).toNatClampNeg
/-- a tape of bytes -/
def TB (T : Nat → Int32) : Prop := ∀ k, k < 400 → T k = nI (tN T k) ∧ tN T k < 256
def okB (m T : Nat → Int32) (j : Nat) : Bool := decide (tN T (3 * j) < nP m) && decide (tN T (3 * j + 1) < nP m) && decide (tN T (3 * j) ≠ tN T (3 * j + 1)) && decide (tN T (3 * j + 2) < 3)
def gdB (m T : Nat → Int32) : Nat → Bool
  | 0 => true
  | j + 1 => gdB m T j && okB m T j
def goodB (m T : Nat → Int32) (n : Nat) : Bool := (decide (n % 3 = 0) && decide (n ≤ 36)) && gdB m T (n / 3)
def caB (m T : Nat → Int32) (o : Option Nat) : Nat → Bool
  | 0 => true
  | j + 1 => caB m T o j && decide (skN m (tN T (3 * j)) (tN T (3 * j + 1)) o = tN T (3 * j + 2))
def wnB (m : Nat → Int32) : Option Nat → Bool
  | none => true
  | some s => decide (m (72 + 6 * s) = 0)
def caseB (m T : Nat → Int32) (n : Nat) (o : Option Nat) : Bool := wnB m o && caB m T o (n / 3)
theorem gdB_f {m T : Nat → Int32} {j : Nat} (h : gdB m T j = false) : ∀ n, gdB m T (j + n) = false
  | 0 => h
  | n + 1 => by rw [← Nat.add_assoc, gdB, gdB_f h n]; rfl
theorem caB_f {m T : Nat → Int32} {o : Option Nat} {j : Nat} (h : caB m T o j = false) : ∀ n, caB m T o (j + n) = false
  | 0 => h
  | n + 1 => by rw [← Nat.add_assoc, caB, caB_f h n]; rfl
theorem gdB_to {m T : Nat → Int32} {j n : Nat} (h : gdB m T j = false) (l : j ≤ n) : gdB m T n = false := by
  obtain ⟨k, rfl⟩ := Nat.exists_eq_add_of_le l
  exact gdB_f h k
theorem caB_to {m T : Nat → Int32} {o : Option Nat} {j n : Nat} (h : caB m T o j = false) (l : j ≤ n) : caB m T o n = false := by
  obtain ⟨k, rfl⟩ := Nat.exists_eq_add_of_le l
  exact caB_f h k
theorem gdB_at {m T : Nat → Int32} : ∀ {n j : Nat}, gdB m T n = true → j < n → okB m T j = true
  | n + 1, j, h, l => by
    rw [gdB, Bool.and_eq_true] at h
    by_cases c : j = n
    · subst c; exact h.2
    · exact gdB_at h.1 (by omega)
theorem okB_i {m T : Nat → Int32} {j : Nat} : okB m T j = true ↔ tN T (3 * j) < nP m ∧ tN T (3 * j + 1) < nP m ∧ tN T (3 * j) ≠ tN T (3 * j + 1) ∧ tN T (3 * j + 2) < 3 := by
  unfold okB
  simp only [Bool.and_eq_true, decide_eq_true_iff]
  exact ⟨fun ⟨⟨⟨a, b⟩, c⟩, d⟩ => ⟨a, b, c, d⟩, fun ⟨a, b, c, d⟩ => ⟨⟨⟨a, b⟩, c⟩, d⟩⟩
theorem goodB_i {m T : Nat → Int32} {n : Nat} : goodB m T n = true ↔ n % 3 = 0 ∧ n ≤ 36 ∧ gdB m T (n / 3) = true := by
  unfold goodB
  simp only [Bool.and_eq_true, decide_eq_true_iff]
  exact ⟨fun ⟨⟨a, b⟩, c⟩ => ⟨a, b, c⟩, fun ⟨a, b, c⟩ => ⟨⟨a, b⟩, c⟩⟩
theorem rm3 : ∀ n, n ≤ 400 → (rmF (nI n) 3 = 0 ↔ n % 3 = 0) := by decide +kernel
theorem wnB_hok {m : Nat → Int32} {o : Option Nat} (h : ∀ s, o = some s → s < nS m) : wnB m o = true ↔ HOK m o := by
  cases o with
  | none => exact ⟨fun _ => trivial, fun _ => rfl⟩
  | some s => exact ⟨fun z => ⟨h s rfl, of_decide_eq_true z⟩, fun z => decide_eq_true z.2⟩

section
variable {G : am_G} {h : am_H} {x y : Nat} {hi : Bool} {m b g T f : Nat → Int32} {l : Value} {len n : Nat} {at_ bg ft dp : Int32}
theorem c_xWeighed (hw : HW h) (o : h.1 x = some (.inr (0, xobj x hi))) (q : WA h (x + 1) m b l) (v : VR m) (r : RS h (x + 46) f n len at_ bg ft dp) (hn : n ≤ 400) (tb : TB T) (tf : ∀ k, k < 400 → f k = sbI (T k)) : Wc G 4 m_X1_weighed [.ref x] h (fun R => ∃ h', RS h' (x + 46) f 0 n 0 bg ft 0 ∧ HF (isR (x + 46)) 0 0 h h' ∧ (if goodB m T n = true then R = .inl (none, h') else R = .inr (18, am_skip h' 6))) := by
  have o1 := r.1
  have hP := v.pp.2
  refine wc_in mt_X1_weighed rfl (L := [.ref x, am_un, am_un]) rfl ?_
  refine r_aload_0 rfl ?_
  refine r_getf rfl (by assumption) (by rfl) ?_
  refine r_astore_1 rfl ?_
  refine r_aload_1 rfl ?_
  refine r_invvF rfl rfl (o1) rfl rfl (by decide) (c_begins hw r) ?_
  rintro h1 ⟨r1, F1⟩
  have o1 := r1.1; have oT := r1.2
  have ox := F1.k o (show ¬ isR (x + 46) x by unfold isR; omega)
  have w1 := q.keep F1 (fun a z => by unfold isR at z; omega)
  have o0 := wa_o w1
  have inP : ∀ k, k < 400 → inF (f k) 0 (m 3 - 1) = decide (tN T k < nP m) := fun k hk => by
    rw [tf k hk, (tb k hk).1, v.pp.1]; exact nI_sb2 _ hP _ (tb k hk).2
  have in3 : ∀ k, k < 400 → inF (f k) 0 2 = decide (tN T k < 3) := fun k hk => by
    rw [tf k hk, (tb k hk).1]; exact nI_sb3 _ (tb k hk).2
  by_cases c1 : n % 3 = 0 ∧ n ≤ 36
  · obtain ⟨c1, c2⟩ := c1
    refine r_aload_1 rfl ?_
    refine r_getf rfl (by assumption) (by rfl) ?_
    refine r_push rfl ?_
    refine r_irem rfl (by decide) ?_
    refine r_ifneF rfl ((rm3 n hn).mpr c1) ?_
    refine r_aload_1 rfl ?_
    refine r_getf rfl (by assumption) (by rfl) ?_
    refine r_push rfl ?_
    refine r_icgtF rfl (nI_le c2 (by decide)) ?_
    refine r_push rfl ?_
    refine r_goto rfl ?_
    refine r_invO rfl rfl rfl (by decide) (c_demandT (by decide)) ?_
    refine r_push rfl ?_
    refine r_istore_2 rfl ?_
    refine wp_forHK (n / 3) (fun j => [.ref x, .ref (x + 46), .int (nI (3 * j))]) (fun j h' => h' = h1 ∧ gdB m T j = true) (fun j h' hj hK kont => ?_) (fun h' hK => ?_) ⟨rfl, rfl⟩
    · obtain ⟨rfl, gj⟩ := hK
      have e1 : nI (3 * j) + 1 = nI (3 * j + 1) := nI_add _ 1
      have e2 : nI (3 * j) + 2 = nI (3 * j + 2) := nI_add _ 2
      have bad : okB m T j = false → goodB m T n = false := fun z => by
        unfold goodB
        rw [gdB_to (j := j + 1) (by rw [gdB, gj, z]; rfl) (by omega), Bool.and_false]
      refine r_iload_2 rfl ?_
      refine r_aload_1 rfl ?_
      refine r_getf rfl o1 rfl ?_
      refine r_icgeF rfl (nI_lt (by omega) (by omega)) ?_
      by_cases d1 : tN T (3 * j) < nP m
      · by_cases d2 : tN T (3 * j + 1) < nP m
        · have l1 : f (3 * j) = nI (tN T (3 * j)) := by rw [tf _ (by omega), (tb _ (by omega)).1]; exact nI_sb _ (by omega)
          have l2 : f (3 * j + 1) = nI (tN T (3 * j + 1)) := by rw [tf _ (by omega), (tb _ (by omega)).1]; exact nI_sb _ (by omega)
          by_cases d3 : tN T (3 * j) = tN T (3 * j + 1)
          · refine r_aload_1 rfl ?_
            refine r_getf rfl (by assumption) (by rfl) ?_
            refine r_iload_2 rfl ?_
            refine r_bald rfl (oT) (by rfl) (show 3 * j < 400 by omega) (by first | decide | omega) ?_
            refine r_push rfl ?_
            refine r_aload_0 rfl ?_
            refine r_getf rfl (by assumption) (by rfl) ?_
            refine r_getf rfl (by assumption) (by rfl) ?_
            refine r_push rfl ?_
            refine r_isub rfl ?_
            refine r_invP_3 rfl rfl (by decide) (c_in _ _ _) ?_
            refine r_ifeqF rfl (by rw [inP _ (by omega), decide_eq_true d1]; decide) ?_
            refine r_aload_1 rfl ?_
            refine r_getf rfl (by assumption) (by rfl) ?_
            refine r_iload_2 rfl ?_
            refine r_push rfl ?_
            refine r_iadd rfl ?_
            refine r_bald rfl (oT) (e1) (show 3 * j + 1 < 400 by omega) (by first | decide | omega) ?_
            refine r_push rfl ?_
            refine r_aload_0 rfl ?_
            refine r_getf rfl (by assumption) (by rfl) ?_
            refine r_getf rfl (by assumption) (by rfl) ?_
            refine r_push rfl ?_
            refine r_isub rfl ?_
            refine r_invP_3 rfl rfl (by decide) (c_in _ _ _) ?_
            refine r_ifeqF rfl (by rw [inP _ (by omega), decide_eq_true d2]; decide) ?_
            refine r_aload_1 rfl ?_
            refine r_getf rfl (by assumption) (by rfl) ?_
            refine r_iload_2 rfl ?_
            refine r_bald rfl (oT) (by rfl) (show 3 * j < 400 by omega) (by first | decide | omega) ?_
            refine r_aload_1 rfl ?_
            refine r_getf rfl (by assumption) (by rfl) ?_
            refine r_iload_2 rfl ?_
            refine r_push rfl ?_
            refine r_iadd rfl ?_
            refine r_bald rfl (oT) (e1) (show 3 * j + 1 < 400 by omega) (by first | decide | omega) ?_
            refine r_iceqT rfl (by rw [l1, l2, d3]) ?_
            refine r_push rfl ?_
            refine r_invX rfl rfl rfl rfl (by decide) (c_demandF rfl) ?_
            exact ⟨_, r1, F1, by rw [if_neg (by rw [bad (Bool.eq_false_iff.mpr (fun w => (okB_i.mp w).2.2.1 d3))]; decide)]⟩
          · by_cases d4 : tN T (3 * j + 2) < 3
            · refine r_aload_1 rfl ?_
              refine r_getf rfl (by assumption) (by rfl) ?_
              refine r_iload_2 rfl ?_
              refine r_bald rfl (oT) (by rfl) (show 3 * j < 400 by omega) (by first | decide | omega) ?_
              refine r_push rfl ?_
              refine r_aload_0 rfl ?_
              refine r_getf rfl (by assumption) (by rfl) ?_
              refine r_getf rfl (by assumption) (by rfl) ?_
              refine r_push rfl ?_
              refine r_isub rfl ?_
              refine r_invP_3 rfl rfl (by decide) (c_in _ _ _) ?_
              refine r_ifeqF rfl (by rw [inP _ (by omega), decide_eq_true d1]; decide) ?_
              refine r_aload_1 rfl ?_
              refine r_getf rfl (by assumption) (by rfl) ?_
              refine r_iload_2 rfl ?_
              refine r_push rfl ?_
              refine r_iadd rfl ?_
              refine r_bald rfl (oT) (e1) (show 3 * j + 1 < 400 by omega) (by first | decide | omega) ?_
              refine r_push rfl ?_
              refine r_aload_0 rfl ?_
              refine r_getf rfl (by assumption) (by rfl) ?_
              refine r_getf rfl (by assumption) (by rfl) ?_
              refine r_push rfl ?_
              refine r_isub rfl ?_
              refine r_invP_3 rfl rfl (by decide) (c_in _ _ _) ?_
              refine r_ifeqF rfl (by rw [inP _ (by omega), decide_eq_true d2]; decide) ?_
              refine r_aload_1 rfl ?_
              refine r_getf rfl (by assumption) (by rfl) ?_
              refine r_iload_2 rfl ?_
              refine r_bald rfl (oT) (by rfl) (show 3 * j < 400 by omega) (by first | decide | omega) ?_
              refine r_aload_1 rfl ?_
              refine r_getf rfl (by assumption) (by rfl) ?_
              refine r_iload_2 rfl ?_
              refine r_push rfl ?_
              refine r_iadd rfl ?_
              refine r_bald rfl (oT) (e1) (show 3 * j + 1 < 400 by omega) (by first | decide | omega) ?_
              refine r_iceqF rfl (by rw [l1, l2]; exact fun z => d3 (nI_inj (by omega) (by omega) z)) ?_
              refine r_aload_1 rfl ?_
              refine r_getf rfl (by assumption) (by rfl) ?_
              refine r_iload_2 rfl ?_
              refine r_push rfl ?_
              refine r_iadd rfl ?_
              refine r_bald rfl (oT) (e2) (show 3 * j + 2 < 400 by omega) (by first | decide | omega) ?_
              refine r_push rfl ?_
              refine r_push rfl ?_
              refine r_invP_3 rfl rfl (by decide) (c_in _ _ _) ?_
              refine r_ifeqF rfl (by rw [in3 _ (by omega), decide_eq_true d4]; decide) ?_
              refine r_push rfl ?_
              refine r_goto rfl ?_
              refine r_invO rfl rfl rfl (by decide) (c_demandT (by decide)) ?_
              refine r_iinc_2 rfl ?_
              refine r_goto rfl ?_
              rw [show nI (3 * j) + 3 = nI (3 * (j + 1)) from nI_add _ 3]
              exact kont _ ⟨rfl, by rw [gdB, gj, okB_i.mpr ⟨d1, d2, d3, d4⟩]; rfl⟩
            · refine r_aload_1 rfl ?_
              refine r_getf rfl (by assumption) (by rfl) ?_
              refine r_iload_2 rfl ?_
              refine r_bald rfl (oT) (by rfl) (show 3 * j < 400 by omega) (by first | decide | omega) ?_
              refine r_push rfl ?_
              refine r_aload_0 rfl ?_
              refine r_getf rfl (by assumption) (by rfl) ?_
              refine r_getf rfl (by assumption) (by rfl) ?_
              refine r_push rfl ?_
              refine r_isub rfl ?_
              refine r_invP_3 rfl rfl (by decide) (c_in _ _ _) ?_
              refine r_ifeqF rfl (by rw [inP _ (by omega), decide_eq_true d1]; decide) ?_
              refine r_aload_1 rfl ?_
              refine r_getf rfl (by assumption) (by rfl) ?_
              refine r_iload_2 rfl ?_
              refine r_push rfl ?_
              refine r_iadd rfl ?_
              refine r_bald rfl (oT) (e1) (show 3 * j + 1 < 400 by omega) (by first | decide | omega) ?_
              refine r_push rfl ?_
              refine r_aload_0 rfl ?_
              refine r_getf rfl (by assumption) (by rfl) ?_
              refine r_getf rfl (by assumption) (by rfl) ?_
              refine r_push rfl ?_
              refine r_isub rfl ?_
              refine r_invP_3 rfl rfl (by decide) (c_in _ _ _) ?_
              refine r_ifeqF rfl (by rw [inP _ (by omega), decide_eq_true d2]; decide) ?_
              refine r_aload_1 rfl ?_
              refine r_getf rfl (by assumption) (by rfl) ?_
              refine r_iload_2 rfl ?_
              refine r_bald rfl (oT) (by rfl) (show 3 * j < 400 by omega) (by first | decide | omega) ?_
              refine r_aload_1 rfl ?_
              refine r_getf rfl (by assumption) (by rfl) ?_
              refine r_iload_2 rfl ?_
              refine r_push rfl ?_
              refine r_iadd rfl ?_
              refine r_bald rfl (oT) (e1) (show 3 * j + 1 < 400 by omega) (by first | decide | omega) ?_
              refine r_iceqF rfl (by rw [l1, l2]; exact fun z => d3 (nI_inj (by omega) (by omega) z)) ?_
              refine r_aload_1 rfl ?_
              refine r_getf rfl (by assumption) (by rfl) ?_
              refine r_iload_2 rfl ?_
              refine r_push rfl ?_
              refine r_iadd rfl ?_
              refine r_bald rfl (oT) (e2) (show 3 * j + 2 < 400 by omega) (by first | decide | omega) ?_
              refine r_push rfl ?_
              refine r_push rfl ?_
              refine r_invP_3 rfl rfl (by decide) (c_in _ _ _) ?_
              refine r_ifeqT rfl (by rw [in3 _ (by omega), decide_eq_false d4]; rfl) ?_
              refine r_push rfl ?_
              refine r_invX rfl rfl rfl rfl (by decide) (c_demandF rfl) ?_
              exact ⟨_, r1, F1, by rw [if_neg (by rw [bad (by unfold okB; rw [decide_eq_false d4]; simp)]; decide)]⟩
        · refine r_aload_1 rfl ?_
          refine r_getf rfl (by assumption) (by rfl) ?_
          refine r_iload_2 rfl ?_
          refine r_bald rfl (oT) (by rfl) (show 3 * j < 400 by omega) (by first | decide | omega) ?_
          refine r_push rfl ?_
          refine r_aload_0 rfl ?_
          refine r_getf rfl (by assumption) (by rfl) ?_
          refine r_getf rfl (by assumption) (by rfl) ?_
          refine r_push rfl ?_
          refine r_isub rfl ?_
          refine r_invP_3 rfl rfl (by decide) (c_in _ _ _) ?_
          refine r_ifeqF rfl (by rw [inP _ (by omega), decide_eq_true d1]; decide) ?_
          refine r_aload_1 rfl ?_
          refine r_getf rfl (by assumption) (by rfl) ?_
          refine r_iload_2 rfl ?_
          refine r_push rfl ?_
          refine r_iadd rfl ?_
          refine r_bald rfl (oT) (e1) (show 3 * j + 1 < 400 by omega) (by first | decide | omega) ?_
          refine r_push rfl ?_
          refine r_aload_0 rfl ?_
          refine r_getf rfl (by assumption) (by rfl) ?_
          refine r_getf rfl (by assumption) (by rfl) ?_
          refine r_push rfl ?_
          refine r_isub rfl ?_
          refine r_invP_3 rfl rfl (by decide) (c_in _ _ _) ?_
          refine r_ifeqT rfl (by rw [inP _ (by omega), decide_eq_false d2]; rfl) ?_
          refine r_push rfl ?_
          refine r_invX rfl rfl rfl rfl (by decide) (c_demandF rfl) ?_
          exact ⟨_, r1, F1, by rw [if_neg (by rw [bad (by unfold okB; rw [decide_eq_false d2]; simp)]; decide)]⟩
      · refine r_aload_1 rfl ?_
        refine r_getf rfl (by assumption) (by rfl) ?_
        refine r_iload_2 rfl ?_
        refine r_bald rfl (oT) (by rfl) (show 3 * j < 400 by omega) (by first | decide | omega) ?_
        refine r_push rfl ?_
        refine r_aload_0 rfl ?_
        refine r_getf rfl (by assumption) (by rfl) ?_
        refine r_getf rfl (by assumption) (by rfl) ?_
        refine r_push rfl ?_
        refine r_isub rfl ?_
        refine r_invP_3 rfl rfl (by decide) (c_in _ _ _) ?_
        refine r_ifeqT rfl (by rw [inP _ (by omega), decide_eq_false d1]; rfl) ?_
        refine r_push rfl ?_
        refine r_invX rfl rfl rfl rfl (by decide) (c_demandF rfl) ?_
        exact ⟨_, r1, F1, by rw [if_neg (by rw [bad (by unfold okB; rw [decide_eq_false d1]; simp)]; decide)]⟩
    · obtain ⟨rfl, gj⟩ := hK
      refine r_iload_2 rfl ?_
      refine r_aload_1 rfl ?_
      refine r_getf rfl o1 rfl ?_
      refine r_icgeT rfl (by rw [show 3 * (n / 3) = n by omega]; exact Int32.le_refl _) ?_
      refine r_vret rfl ?_
      exact ⟨_, r1, F1, by rw [if_pos (goodB_i.mpr ⟨c1, c2, gj⟩)]⟩
  · have bad : ¬ goodB m T n = true := fun z => c1 ⟨(goodB_i.mp z).1, (goodB_i.mp z).2.1⟩
    by_cases c2 : n % 3 = 0
    · refine r_aload_1 rfl ?_
      refine r_getf rfl (by assumption) (by rfl) ?_
      refine r_push rfl ?_
      refine r_irem rfl (by decide) ?_
      refine r_ifneF rfl ((rm3 n hn).mpr c2) ?_
      refine r_aload_1 rfl ?_
      refine r_getf rfl (by assumption) (by rfl) ?_
      refine r_push rfl ?_
      refine r_icgtT rfl (nI_lt (a := 36) (by omega) (by omega)) ?_
      refine r_push rfl ?_
      refine r_invX rfl rfl rfl rfl (by decide) (c_demandF rfl) ?_
      exact ⟨_, r1, F1, by rw [if_neg bad]⟩
    · refine r_aload_1 rfl ?_
      refine r_getf rfl (by assumption) (by rfl) ?_
      refine r_push rfl ?_
      refine r_irem rfl (by decide) ?_
      refine r_ifneT rfl (fun z => c2 ((rm3 n hn).mp z)) ?_
      refine r_push rfl ?_
      refine r_invX rfl rfl rfl rfl (by decide) (c_demandF rfl) ?_
      exact ⟨_, r1, F1, by rw [if_neg bad]⟩
/-- whether a case can be -/
theorem c_xIsCase (o : h.1 x = some (.inr (0, xobj x hi))) (q : WA h (x + 1) m b l) (v : VR m) (yb : BY b m) (r : RS h (x + 46) f len n at_ bg ft dp) (tb : TB T) (tf : ∀ k, k < 400 → f k = sbI (T k)) (gd : goodB m T n = true) {ho : Option Nat} (hs : ∀ s, ho = some s → s < nS m) : Vc G 5 m_X1_isCase [.ref x, .int (hoI ho)] h (.int (bI (caseB m T n ho))) := by
  have o0 := wa_o q; have oS := wa_st q
  have o1 := r.1; have oT := r.2
  have hP := v.pp.2
  have hS := v.ss.2
  obtain ⟨g1, g2, g3⟩ := goodB_i.mp gd
  refine wc_in mt_X1_isCase rfl (L := [.ref x, .int (hoI ho), am_un, am_un]) rfl ?_
  have fin : wnB m ho = true → Wp G 5 mt_X1_isCase 24 [.ref x, .int (hoI ho), .ref (x + 46), am_un] [] h (fun R => R = .inl (some (.int (bI (caseB m T n ho))), h)) := by
    intro wn
    have hk := (wnB_hok hs).mp wn
    refine r_push rfl ?_
    refine r_istore_3 rfl ?_
    refine wp_forHK (n / 3) (fun j => [.ref x, .int (hoI ho), .ref (x + 46), .int (nI (3 * j))]) (fun j h' => h' = h ∧ caB m T ho j = true) (fun j h' hj hK kont => ?_) (fun h' hK => ?_) ⟨rfl, rfl⟩
    · obtain ⟨rfl, cj⟩ := hK
      have e1 : nI (3 * j) + 1 = nI (3 * j + 1) := nI_add _ 1
      have e2 : nI (3 * j) + 2 = nI (3 * j + 2) := nI_add _ 2
      obtain ⟨d1, d2, d3, d4⟩ := okB_i.mp (gdB_at g3 hj)
      have l1 : f (3 * j) = nI (tN T (3 * j)) := by rw [tf _ (by omega), (tb _ (by omega)).1]; exact nI_sb _ (by omega)
      have l2 : f (3 * j + 1) = nI (tN T (3 * j + 1)) := by rw [tf _ (by omega), (tb _ (by omega)).1]; exact nI_sb _ (by omega)
      have l3 : f (3 * j + 2) = nI (tN T (3 * j + 2)) := by rw [tf _ (by omega), (tb _ (by omega)).1]; exact nI_sb _ (by omega)
      have sk3 : skN m (tN T (3 * j)) (tN T (3 * j + 1)) ho < 3 := by unfold skN; (repeat' split) <;> decide
      by_cases c : skN m (tN T (3 * j)) (tN T (3 * j + 1)) ho = tN T (3 * j + 2)
      · refine r_iload_3 rfl ?_
        refine r_aload_2 rfl ?_
        refine r_getf rfl (by assumption) (by rfl) ?_
        refine r_icgeF rfl (nI_lt (by omega) (by omega)) ?_
        refine r_aload_0 rfl ?_
        refine r_aload_2 rfl ?_
        refine r_getf rfl (by assumption) (by rfl) ?_
        refine r_iload_3 rfl ?_
        refine r_bald rfl (oT) (by rfl) (show 3 * j < 400 by omega) (by first | decide | omega) ?_
        rw [l1]
        refine r_aload_2 rfl ?_
        refine r_getf rfl (by assumption) (by rfl) ?_
        refine r_iload_3 rfl ?_
        refine r_push rfl ?_
        refine r_iadd rfl ?_
        refine r_bald rfl (oT) (e1) (show 3 * j + 1 < 400 by omega) (by first | decide | omega) ?_
        rw [l2]
        refine r_iload_1 rfl ?_
        refine r_invvP_3 rfl (o) rfl rfl (by decide) (c_xSinks o q v yb hk) ?_
        refine r_aload_2 rfl ?_
        refine r_getf rfl (by assumption) (by rfl) ?_
        refine r_iload_3 rfl ?_
        refine r_push rfl ?_
        refine r_iadd rfl ?_
        refine r_bald rfl (oT) (e2) (show 3 * j + 2 < 400 by omega) (by first | decide | omega) ?_
        rw [l3]
        refine r_iceqT rfl (by rw [c]) ?_
        refine r_iinc_3 rfl ?_
        refine r_goto rfl ?_
        rw [show nI (3 * j) + 3 = nI (3 * (j + 1)) from nI_add _ 3]
        exact kont _ ⟨rfl, by rw [caB, cj, decide_eq_true c]; rfl⟩
      · refine r_iload_3 rfl ?_
        refine r_aload_2 rfl ?_
        refine r_getf rfl (by assumption) (by rfl) ?_
        refine r_icgeF rfl (nI_lt (by omega) (by omega)) ?_
        refine r_aload_0 rfl ?_
        refine r_aload_2 rfl ?_
        refine r_getf rfl (by assumption) (by rfl) ?_
        refine r_iload_3 rfl ?_
        refine r_bald rfl (oT) (by rfl) (show 3 * j < 400 by omega) (by first | decide | omega) ?_
        rw [l1]
        refine r_aload_2 rfl ?_
        refine r_getf rfl (by assumption) (by rfl) ?_
        refine r_iload_3 rfl ?_
        refine r_push rfl ?_
        refine r_iadd rfl ?_
        refine r_bald rfl (oT) (e1) (show 3 * j + 1 < 400 by omega) (by first | decide | omega) ?_
        rw [l2]
        refine r_iload_1 rfl ?_
        refine r_invvP_3 rfl (o) rfl rfl (by decide) (c_xSinks o q v yb hk) ?_
        refine r_aload_2 rfl ?_
        refine r_getf rfl (by assumption) (by rfl) ?_
        refine r_iload_3 rfl ?_
        refine r_push rfl ?_
        refine r_iadd rfl ?_
        refine r_bald rfl (oT) (e2) (show 3 * j + 2 < 400 by omega) (by first | decide | omega) ?_
        rw [l3]
        refine r_iceqF rfl (fun z => c (nI_inj (by omega) (by omega) z)) ?_
        refine r_push rfl ?_
        refine r_zret rfl (by first | decide | assumption) ?_
        have : caseB m T n ho = false := by unfold caseB; rw [caB_to (j := j + 1) (by rw [caB, cj, decide_eq_false c]; rfl) (by omega), Bool.and_false]
        rw [this]; rfl
    · obtain ⟨rfl, cj⟩ := hK
      refine r_iload_3 rfl ?_
      refine r_aload_2 rfl ?_
      refine r_getf rfl (by assumption) (by rfl) ?_
      refine r_icgeT rfl (by rw [show 3 * (n / 3) = n by omega]; exact Int32.le_refl _) ?_
      refine r_push rfl ?_
      refine r_zret rfl (by first | decide | assumption) ?_
      have : caseB m T n ho = true := by unfold caseB; rw [wn, cj]; rfl
      rw [this]; rfl
  cases ho with
  | none =>
    refine r_aload_0 rfl ?_
    refine r_getf rfl (by assumption) (by rfl) ?_
    refine r_astore_2 rfl ?_
    refine r_iload_1 rfl ?_
    refine r_push rfl ?_
    refine r_iceqT rfl (rfl) ?_
    exact fin rfl
  | some s =>
    have hs9 := hs s rfl
    have hs8 : s < 10 := by omega
    have nm : ¬ hoI (some s) = -1 := nI_neg1 (by omega)
    by_cases c : m (72 + 6 * s) = 0
    · refine r_aload_0 rfl ?_
      refine r_getf rfl (by assumption) (by rfl) ?_
      refine r_astore_2 rfl ?_
      refine r_iload_1 rfl ?_
      refine r_push rfl ?_
      refine r_iceqF rfl (nm) ?_
      refine r_aload_0 rfl ?_
      refine r_getf rfl (by assumption) (by rfl) ?_
      refine r_getf rfl (by assumption) (by rfl) ?_
      refine r_iload_1 rfl ?_
      refine r_iald rfl (oS) (show hoI (some s) = nI s from rfl) (hs8) (by first | decide | omega) ?_
      rw [cl_in hs8]
      refine r_ifeqT rfl (c) ?_
      exact fin (decide_eq_true c)
    · refine r_aload_0 rfl ?_
      refine r_getf rfl (by assumption) (by rfl) ?_
      refine r_astore_2 rfl ?_
      refine r_iload_1 rfl ?_
      refine r_push rfl ?_
      refine r_iceqF rfl (nm) ?_
      refine r_aload_0 rfl ?_
      refine r_getf rfl (by assumption) (by rfl) ?_
      refine r_getf rfl (by assumption) (by rfl) ?_
      refine r_iload_1 rfl ?_
      refine r_iald rfl (oS) (show hoI (some s) = nI s from rfl) (hs8) (by first | decide | omega) ?_
      rw [cl_in hs8]
      refine r_ifeqF rfl (c) ?_
      refine r_push rfl ?_
      refine r_zret rfl (by first | decide | assumption) ?_
      have : caseB m T n (some s) = false := by unfold caseB wnB; simp only [decide_eq_false c, Bool.false_and]
      rw [this]; rfl
end
