/-! WHAT IS ASKED: owes (by others) on both sides -/
set_option maxRecDepth 100000
def eg (m : Nat → Int32) (s : Nat) : Bool := !decide (m (72 + 6 * s) = 2)
/-- lenders of people of a set -/
def lnF (m : Nat → Int32) (S : Int32) : Nat → Int32
  | 0 => 0
  | s + 1 => lnF m S s ||| (if eg m s = true ∧ isF S (m (69 + 6 * s)) = true then (1 : Int32) <<< (m (70 + 6 * s) &&& 31) else 0)
def jF (m : Nat → Int32) (S : Int32) : Int32 := S ||| lnF m S (nS m)
/-- .. each one at once in the set -/
def gsF (m : Nat → Int32) (S : Int32) : Nat → Int32
  | 0 => S
  | s + 1 => if eg m s = true ∧ isF (gsF m S s) (m (69 + 6 * s)) = true then gsF m S s ||| (1 : Int32) <<< (m (70 + 6 * s) &&& 31) else gsF m S s
def itF (f : Int32 → Int32) (S : Int32) : Nat → Int32
  | 0 => S
  | n + 1 => f (itF f S n)
def dbN (m : Nat → Int32) (s : Nat) : Nat := (m (69 + 6 * s)).toNatClampNeg
def leN (m : Nat → Int32) (s : Nat) : Nat := (m (70 + 6 * s)).toNatClampNeg
def qOwes (m : Nat → Int32) (p r : Int32) : Nat × Int32 := if inF p 0 (m 3 - 1) = false then (1, 0) else if inF r 0 (m 3 - 1) = false then (1, 0) else if p = r then (2, 0) else (0, bI (isF (itF (jF m) ((1 : Int32) <<< (p &&& 31)) 6) r))
/-- how many of the first so many lie in a set -/
def cnB (S : Int32) : Nat → Nat
  | 0 => 0
  | n + 1 => cnB S n + (if tb S n = true then 1 else 0)
theorem cnB_le {S T : Int32} (h : ∀ i, i < 32 → tb S i = true → tb T i = true) : ∀ n, n ≤ 32 → cnB S n ≤ cnB T n
  | 0, _ => Nat.le_refl _
  | n + 1, hn => by
    have := cnB_le h n (by omega)
    have h2 := h n (by omega)
    rw [cnB, cnB]
    by_cases a : tb S n = true
    · rw [if_pos a, if_pos (h2 a)]; omega
    · rw [if_neg a]; omega
theorem cnB_lt {S T : Int32} (h : ∀ i, i < 32 → tb S i = true → tb T i = true) {j : Nat} (h1 : tb T j = true) (h2 : ¬ tb S j = true) : ∀ n, n ≤ 32 → j < n → cnB S n < cnB T n
  | 0, _, hj => absurd hj (Nat.not_lt_zero _)
  | n + 1, hn, hj => by
    rw [cnB, cnB]
    by_cases z : j = n
    · subst z
      have := cnB_le h j (by omega)
      rw [if_neg h2, if_pos h1]; omega
    · have := cnB_lt h h1 h2 n (by omega) (by omega)
      have h3 := h n (by omega)
      by_cases a : tb S n = true
      · rw [if_pos a, if_pos (h3 a)]; omega
      · rw [if_neg a]; omega
theorem cnB_n (S : Int32) : ∀ n, cnB S n ≤ n
  | 0 => Nat.le_refl _
  | n + 1 => by
    have := cnB_n S n
    rw [cnB]
    split <;> omega
section
variable {m : Nat → Int32}
theorem dl_ok (v : VR m) {s : Nat} (hs : s < nS m) : (m (69 + 6 * s) = nI (dbN m s) ∧ dbN m s < 6) ∧ (m (70 + 6 * s) = nI (leN m s) ∧ leN m s < 6) := by
  have hP := v.pp.2
  obtain ⟨⟨a, ha, ea⟩, ⟨c, hc, ec⟩, -⟩ := v.st s hs
  unfold dbN leN
  rw [ea, ec, nI_clamp (by omega), nI_clamp (by omega)]
  exact ⟨⟨rfl, by omega⟩, rfl, by omega⟩
theorem lnF_tb (v : VR m) (S : Int32) {i : Nat} (hi : i < 32) : ∀ n, n ≤ nS m → (tb (lnF m S n) i = true ↔ ∃ s, s < n ∧ eg m s = true ∧ tb S (dbN m s) = true ∧ leN m s = i)
  | 0, _ => by
    show tb 0 i = true ↔ _
    rw [tb_0]
    exact ⟨fun z => (by cases z), fun ⟨s, h, _⟩ => absurd h (Nat.not_lt_zero _)⟩
  | n + 1, hn => by
    obtain ⟨⟨e1, l1⟩, e2, l2⟩ := dl_ok v (show n < nS m by omega)
    rw [lnF, tb_or, Bool.or_eq_true, lnF_tb v S hi n (by omega), e1, e2, isF_tb _ (by omega)]
    constructor
    · rintro (⟨s, h1, h2⟩ | h)
      · exact ⟨s, by omega, h2⟩
      · split at h
        · rename_i c
          rw [tb_bit (by omega) hi, decide_eq_true_iff] at h
          exact ⟨n, by omega, c.1, c.2, h⟩
        · rw [tb_0] at h; cases h
    · rintro ⟨s, h1, h2, h3, h4⟩
      by_cases z : s = n
      · subst z
        refine Or.inr ?_
        rw [if_pos ⟨h2, h3⟩, tb_bit (by omega) hi]
        exact decide_eq_true h4
      · exact Or.inl ⟨s, by omega, h2, h3, h4⟩
/-- a set that no lender leaves -/
def clsd (m : Nat → Int32) (C : Int32) : Prop := ∀ s, s < nS m → eg m s = true → tb C (dbN m s) = true → tb C (leN m s) = true
theorem gsF_up (v : VR m) (S : Int32) : ∀ n, n ≤ nS m → ∀ i, i < 32 → tb S i = true → tb (gsF m S n) i = true
  | 0, _, _, _, h => h
  | n + 1, hn, i, hi, h => by
    have ih := gsF_up v S n (by omega) i hi h
    rw [gsF]
    split
    · rw [tb_or, ih]; rfl
    · exact ih
theorem ln_gs (v : VR m) (S : Int32) : ∀ n, n ≤ nS m → ∀ i, i < 32 → tb (lnF m S n) i = true → tb (gsF m S n) i = true
  | 0, _, i, _, h => by rw [show lnF m S 0 = 0 from rfl, tb_0] at h; cases h
  | n + 1, hn, i, hi, h => by
    obtain ⟨⟨e1, l1⟩, e2, l2⟩ := dl_ok v (show n < nS m by omega)
    rw [lnF, tb_or, Bool.or_eq_true] at h
    have up := gsF_up v S n (by omega)
    rcases h with h | h
    · have ih := ln_gs v S n (by omega) i hi h
      rw [gsF]
      split
      · rw [tb_or, ih]; rfl
      · exact ih
    · split at h
      · rename_i c
        rw [e1, isF_tb _ (by omega)] at c
        rw [gsF, if_pos ⟨c.1, by rw [e1, isF_tb _ (by omega)]; exact up _ (by omega) c.2⟩, tb_or, h, Bool.or_true]
      · rw [tb_0] at h; cases h
theorem gs_in (v : VR m) {C : Int32} (hc : clsd m C) (S : Int32) (hS : ∀ i, i < 32 → tb S i = true → tb C i = true) : ∀ n, n ≤ nS m → ∀ i, i < 32 → tb (gsF m S n) i = true → tb C i = true
  | 0, _, i, hi, h => hS i hi h
  | n + 1, hn, i, hi, h => by
    obtain ⟨⟨e1, l1⟩, e2, l2⟩ := dl_ok v (show n < nS m by omega)
    have ih := gs_in v hc S hS n (by omega)
    rw [gsF] at h
    split at h
    · rename_i c
      rw [e1, isF_tb _ (by omega)] at c
      rw [tb_or, Bool.or_eq_true] at h
      rcases h with h | h
      · exact ih i hi h
      · rw [e2, tb_bit (by omega) hi, decide_eq_true_iff] at h
        subst h
        exact hc n (by omega) c.1 (ih _ (by omega) c.2)
    · exact ih i hi h
theorem jF_tb (v : VR m) (S : Int32) {i : Nat} (hi : i < 32) : tb (jF m S) i = true ↔ (tb S i = true ∨ ∃ s, s < nS m ∧ eg m s = true ∧ tb S (dbN m s) = true ∧ leN m s = i) := by
  unfold jF
  rw [tb_or, Bool.or_eq_true, lnF_tb v S hi _ (Nat.le_refl _)]
theorem jF_cl (v : VR m) {S : Int32} (e : ∀ i, i < 32 → tb (jF m S) i = true → tb S i = true) : clsd m S := fun s hs h1 h2 => by
  obtain ⟨-, -, l2⟩ := dl_ok v hs
  exact e _ (by omega) ((jF_tb v S (by omega)).mpr (Or.inr ⟨s, hs, h1, h2, rfl⟩))
theorem cl_j (v : VR m) {S : Int32} (hc : clsd m S) : ∀ i, i < 32 → tb (jF m S) i = true → tb S i = true := fun i hi h => by
  rcases (jF_tb v S hi).mp h with h | ⟨s, h1, h2, h3, rfl⟩
  · exact h
  · exact hc s h1 h2 h3
theorem cl_jc (v : VR m) {S : Int32} (hc : clsd m S) : clsd m (jF m S) := by
  have e : jF m S = S := tb_ext fun i hi => by
    have a := cl_j v hc i hi
    have b := (jF_tb v S hi).mpr
    cases e : tb S i with
    | true => exact b (Or.inl e)
    | false =>
      cases e2 : tb (jF m S) i with
      | true => rw [a e2] at e; cases e
      | false => rfl
  rw [e]; exact hc
theorem it_big (v : VR m) (S : Int32) (h0 : 1 ≤ cnB S 6) (hlt : ∀ i, i < 32 → tb S i = true → i < 6) : ∀ n, (∀ i, i < 32 → tb (itF (jF m) S n) i = true → i < 6) ∧ (clsd m (itF (jF m) S n) ∨ n + 1 ≤ cnB (itF (jF m) S n) 6)
  | 0 => ⟨hlt, Or.inr h0⟩
  | n + 1 => by
    obtain ⟨h1, h2⟩ := it_big v S h0 hlt n
    have h6 : ∀ i, i < 32 → tb (itF (jF m) S (n + 1)) i = true → i < 6 := fun i hi h => by
      rcases (jF_tb v _ hi).mp h with h | ⟨s, g1, g2, g3, rfl⟩
      · exact h1 i hi h
      · exact (dl_ok v g1).2.2
    refine ⟨h6, ?_⟩
    rcases h2 with h2 | h2
    · exact Or.inl (cl_jc v h2)
    · by_cases c : clsd m (itF (jF m) S n)
      · exact Or.inl (cl_jc v c)
      · refine Or.inr ?_
        have up : ∀ i, i < 32 → tb (itF (jF m) S n) i = true → tb (itF (jF m) S (n + 1)) i = true := fun i hi h => (jF_tb v _ hi).mpr (Or.inl h)
        have : ∃ j, j < 32 ∧ tb (itF (jF m) S (n + 1)) j = true ∧ ¬ tb (itF (jF m) S n) j = true := Classical.byContradiction fun z => c (jF_cl v fun i hi h => Classical.byContradiction fun w => z ⟨i, hi, h, w⟩)
        obtain ⟨j, hj, j1, j2⟩ := this
        have := cnB_lt up j1 j2 6 (by decide) (h6 j hj j1)
        omega
theorem it_cl (v : VR m) (S : Int32) (h0 : 1 ≤ cnB S 6) (hlt : ∀ i, i < 32 → tb S i = true → i < 6) : clsd m (itF (jF m) S 6) := by
  rcases (it_big v S h0 hlt 6).2 with h | h
  · exact h
  · have := cnB_n (itF (jF m) S 6) 6
    omega
theorem it_up (v : VR m) (S : Int32) : ∀ n i, i < 32 → tb S i = true → tb (itF (jF m) S n) i = true
  | 0, _, _, h => h
  | n + 1, i, hi, h => (jF_tb v _ hi).mpr (Or.inl (it_up v S n i hi h))
theorem j_gs (v : VR m) (S : Int32) : ∀ n i, i < 32 → tb (itF (jF m) S n) i = true → tb (itF (fun S => gsF m S (nS m)) S n) i = true
  | 0, _, _, h => h
  | n + 1, i, hi, h => by
    have ih := j_gs v S n
    show tb (gsF m (itF (fun S => gsF m S (nS m)) S n) (nS m)) i = true
    rcases (jF_tb v _ hi).mp h with h | ⟨s, g1, g2, g3, g4⟩
    · exact gsF_up v _ _ (Nat.le_refl _) i hi (ih i hi h)
    · refine ln_gs v _ _ (Nat.le_refl _) i hi ((lnF_tb v _ hi _ (Nat.le_refl _)).mpr ⟨s, g1, g2, ih _ ?_ g3, g4⟩)
      have := (dl_ok v g1).1.2
      omega
theorem gs_j (v : VR m) {C : Int32} (hc : clsd m C) (S : Int32) (hS : ∀ i, i < 32 → tb S i = true → tb C i = true) : ∀ n i, i < 32 → tb (itF (fun S => gsF m S (nS m)) S n) i = true → tb C i = true
  | 0, i, hi, h => hS i hi h
  | n + 1, i, hi, h => gs_in v hc _ (gs_j v hc S hS n) _ (Nat.le_refl _) i hi h
theorem owes_eq (v : VR m) {p : Nat} (hp : p < 6) {r : Nat} (hr : r < 32) : isF (itF (fun S => gsF m S (nS m)) ((1 : Int32) <<< (nI p &&& 31)) 6) (nI r) = isF (itF (jF m) ((1 : Int32) <<< (nI p &&& 31)) 6) (nI r) := by
  rw [isF_tb _ hr, isF_tb _ hr]
  have h0 : ∀ p, p < 6 → 1 ≤ cnB ((1 : Int32) <<< (nI p &&& 31)) 6 := by decide +kernel
  have hlt : ∀ i, i < 32 → tb ((1 : Int32) <<< (nI p &&& 31)) i = true → i < 6 := fun i hi h => by
    rw [tb_bit (by omega) hi, decide_eq_true_iff] at h
    omega
  have hc := it_cl v _ (h0 p hp) hlt
  have a := gs_j v hc _ (it_up v _ 6) 6 r hr
  have b := j_gs v ((1 : Int32) <<< (nI p &&& 31)) 6 r hr
  cases e : tb (itF (jF m) ((1 : Int32) <<< (nI p &&& 31)) 6) r with
  | true => exact b e
  | false =>
    cases e2 : tb (itF (fun S => gsF m S (nS m)) ((1 : Int32) <<< (nI p &&& 31)) 6) r with
    | true => rw [a e2] at e; cases e
    | false => rfl
end
section
variable {G : am_G} {h : am_H} {x y : Nat} {hi : Bool} {m b g : Nat → Int32} {l : Value}
theorem c_xLenders (o : h.1 x = some (.inr (0, xobj x hi))) (q : WA h (x + 1) m b l) (v : VR m) (S : Int32) : Vc G 3 m_X1_lendersOf [.ref x, .int S] h (.int (lnF m S (nS m))) := by
  have o1 := wa_o q; have a1 := wa_st q; have a2 := wa_de q; have a3 := wa_le q
  obtain ⟨hs, h10⟩ := v.ss
  refine wc_in mt_X1_lendersOf rfl (L := [.ref x, .int S, am_un, am_un]) rfl ?_
  refine r_push rfl ?_
  refine r_istore_2 rfl ?_
  refine r_push rfl ?_
  refine r_istore_3 rfl ?_
  refine wp_for (nS m) (fun j => [.ref x, .int S, .int (lnF m S j), .int (nI j)]) (fun j hj kont => ?_) ?_
  · have hj' : j < 10 := by omega
    rw [lnF] at kont
    have c1 := cl_in (f := fun s => m (72 + 6 * s)) hj'
    have c2 := cl_in (f := fun s => m (69 + 6 * s)) hj'
    have c3 := cl_in (f := fun s => m (70 + 6 * s)) hj'
    by_cases A : m (72 + 6 * j) = 2
    · have ea : eg m j = false := by unfold eg; rw [decide_eq_true A]; rfl
      rw [if_neg (fun z => by rw [ea] at z; cases z.1)] at kont
      refine r_iload_3 rfl ?_
      refine r_aload_0 rfl ?_
      refine r_getf rfl (by assumption) (by rfl) ?_
      refine r_getf rfl (by assumption) (by rfl) ?_
      refine r_icgeF rfl (by rw [hs]; exact nI_lt hj (by omega)) ?_
      refine r_iload_2 rfl ?_
      refine r_aload_0 rfl ?_
      refine r_getf rfl (by assumption) (by rfl) ?_
      refine r_getf rfl (by assumption) (by rfl) ?_
      refine r_iload_3 rfl ?_
      refine r_iald rfl (a1) (by rfl) (hj') (by first | decide | omega) ?_
      refine r_push rfl ?_
      refine r_iceqT rfl (by rw [c1]; exact A) ?_
      refine r_push rfl ?_
      refine r_ior rfl ?_
      refine r_istore_2 rfl ?_
      refine r_iinc_3 rfl ?_
      refine r_goto rfl ?_
      rw [nI_1]
      exact kont
    · have ea : eg m j = true := by unfold eg; rw [decide_eq_false A]; rfl
      cases B : isF S (m (69 + 6 * j)) with
      | true =>
        rw [if_pos ⟨ea, B⟩] at kont
        refine r_iload_3 rfl ?_
        refine r_aload_0 rfl ?_
        refine r_getf rfl (by assumption) (by rfl) ?_
        refine r_getf rfl (by assumption) (by rfl) ?_
        refine r_icgeF rfl (by rw [hs]; exact nI_lt hj (by omega)) ?_
        refine r_iload_2 rfl ?_
        refine r_aload_0 rfl ?_
        refine r_getf rfl (by assumption) (by rfl) ?_
        refine r_getf rfl (by assumption) (by rfl) ?_
        refine r_iload_3 rfl ?_
        refine r_iald rfl (a1) (by rfl) (hj') (by first | decide | omega) ?_
        refine r_push rfl ?_
        refine r_iceqF rfl (by rw [c1]; exact A) ?_
        refine r_iload_1 rfl ?_
        refine r_aload_0 rfl ?_
        refine r_getf rfl (by assumption) (by rfl) ?_
        refine r_getf rfl (by assumption) (by rfl) ?_
        refine r_iload_3 rfl ?_
        refine r_iald rfl (a2) (by rfl) (hj') (by first | decide | omega) ?_
        refine r_invP_2 rfl rfl (by decide) (c_has _ _) ?_
        refine r_ifeqF rfl (by rw [c2, B]; decide) ?_
        refine r_push rfl ?_
        refine r_aload_0 rfl ?_
        refine r_getf rfl (by assumption) (by rfl) ?_
        refine r_getf rfl (by assumption) (by rfl) ?_
        refine r_iload_3 rfl ?_
        refine r_iald rfl (a3) (by rfl) (hj') (by first | decide | omega) ?_
        rw [c3]
        refine r_ishl rfl ?_
        refine r_goto rfl ?_
        refine r_ior rfl ?_
        refine r_istore_2 rfl ?_
        refine r_iinc_3 rfl ?_
        refine r_goto rfl ?_
        rw [nI_1]
        exact kont
      | false =>
        rw [if_neg (fun z => by rw [B] at z; cases z.2)] at kont
        refine r_iload_3 rfl ?_
        refine r_aload_0 rfl ?_
        refine r_getf rfl (by assumption) (by rfl) ?_
        refine r_getf rfl (by assumption) (by rfl) ?_
        refine r_icgeF rfl (by rw [hs]; exact nI_lt hj (by omega)) ?_
        refine r_iload_2 rfl ?_
        refine r_aload_0 rfl ?_
        refine r_getf rfl (by assumption) (by rfl) ?_
        refine r_getf rfl (by assumption) (by rfl) ?_
        refine r_iload_3 rfl ?_
        refine r_iald rfl (a1) (by rfl) (hj') (by first | decide | omega) ?_
        refine r_push rfl ?_
        refine r_iceqF rfl (by rw [c1]; exact A) ?_
        refine r_iload_1 rfl ?_
        refine r_aload_0 rfl ?_
        refine r_getf rfl (by assumption) (by rfl) ?_
        refine r_getf rfl (by assumption) (by rfl) ?_
        refine r_iload_3 rfl ?_
        refine r_iald rfl (a2) (by rfl) (hj') (by first | decide | omega) ?_
        refine r_invP_2 rfl rfl (by decide) (c_has _ _) ?_
        refine r_ifeqT rfl (by rw [c2, B]; rfl) ?_
        refine r_push rfl ?_
        refine r_ior rfl ?_
        refine r_istore_2 rfl ?_
        refine r_iinc_3 rfl ?_
        refine r_goto rfl ?_
        rw [nI_1]
        exact kont
  · refine r_iload_3 rfl ?_
    refine r_aload_0 rfl ?_
    refine r_getf rfl (by assumption) (by rfl) ?_
    refine r_getf rfl (by assumption) (by rfl) ?_
    refine r_icgeT rfl (by rw [hs]; exact Int32.le_refl _) ?_
    refine r_iload_2 rfl ?_
    refine r_iret rfl ?_
    rfl
theorem c_xOwes (o : h.1 x = some (.inr (0, xobj x hi))) (q : WA h (x + 1) m b l) (v : VR m) (p r : Int32) : Qt G 4 m_X1_owes [.ref x, .int p, .int r] h (qOwes m p r) (k2 20 18) := by
  refine wc_in mt_X1_owes rfl (L := [.ref x, .int p, .int r, am_un, am_un]) rfl ?_
  refine r_aload_0 rfl ?_
  refine r_iload_1 rfl ?_
  unfold qOwes
  cases e1 : inF p 0 (m 3 - 1) with
  | false =>
    rw [if_pos rfl]
    refine r_invvX rfl rfl o rfl rfl rfl (by decide) (c_personAtF o q e1) ?_
    exact Or.inr ⟨_, _, rfl, by decide, rfl, rfl⟩
  | true =>
    rw [if_neg (by decide)]
    refine r_invvO rfl rfl o rfl rfl (by decide) (c_personAtT o q e1) ?_
    refine r_aload_0 rfl ?_
    refine r_iload_2 rfl ?_
    cases e2 : inF r 0 (m 3 - 1) with
    | false =>
      rw [if_pos rfl]
      refine r_invvX rfl rfl o rfl rfl rfl (by decide) (c_personAtF o q e2) ?_
      exact Or.inr ⟨_, _, rfl, by decide, rfl, rfl⟩
    | true =>
      rw [if_neg (by decide)]
      refine r_invvO rfl rfl o rfl rfl (by decide) (c_personAtT o q e2) ?_
      by_cases e3 : p = r
      · rw [if_pos e3]
        refine r_iload_1 rfl ?_
        refine r_iload_2 rfl ?_
        refine r_iceqT rfl (e3) ?_
        refine r_push rfl ?_
        refine r_invX rfl rfl rfl rfl (by decide) (c_demandF rfl) ?_
        exact Or.inr ⟨_, _, rfl, by decide, rfl, rfl⟩
      · rw [if_neg e3]
        refine r_iload_1 rfl ?_
        refine r_iload_2 rfl ?_
        refine r_iceqF rfl (e3) ?_
        refine r_push rfl ?_
        refine r_goto rfl ?_
        refine r_invO rfl rfl rfl (by decide) (c_demandT (by decide)) ?_
        refine r_push rfl ?_
        refine r_iload_1 rfl ?_
        refine r_ishl rfl ?_
        refine r_istore_3 rfl ?_
        refine r_push rfl ?_
        refine r_istore_4 rfl ?_
        refine wp_for 6 (fun j => [.ref x, .int p, .int r, .int (itF (jF m) ((1 : Int32) <<< (p &&& 31)) j), .int (nI j)]) (fun j hj kont => ?_) ?_
        · refine r_iload_4 rfl ?_
          refine r_push rfl ?_
          refine r_icgeF rfl (nI_lt hj (by decide)) ?_
          refine r_iload_3 rfl ?_
          refine r_aload_0 rfl ?_
          refine r_iload_3 rfl ?_
          refine r_invvP_1 rfl (by assumption) rfl rfl (by decide) (c_xLenders o q v _) ?_
          refine r_ior rfl ?_
          refine r_istore_3 rfl ?_
          refine r_iinc_4 rfl ?_
          refine r_goto rfl ?_
          rw [nI_1]
          exact kont
        · refine r_iload_4 rfl ?_
          refine r_push rfl ?_
          refine r_icgeT rfl (by decide) ?_
          refine r_iload_3 rfl ?_
          refine r_iload_2 rfl ?_
          refine r_invP_2 rfl rfl (by decide) (c_has _ _) ?_
          refine r_zret rfl (bI_01 _) ?_
          exact Or.inl ⟨_, _, rfl, rfl, rfl, rfl⟩
theorem c_yOwes (q : MM h y g m) (v : VR m) (p r : Int32) : Yc G 4 m_X6_owes [.ref y, .int p, .int r] h y g (qOwes m p r) := by
  have o := q.1
  have m1 := q.thr (nI 1); have m2 := q.thr (nI 2); have m3 := q.thr (nI 0)
  have o1 := m1.1; have o2 := m2.1; have o3 := m3.1; have r3 := m3.2
  obtain ⟨hs, h10⟩ := v.ss
  refine wc_in mt_X6_owes rfl (L := [.ref y, .int p, .int r, am_un, am_un, am_un]) rfl ?_
  unfold qOwes
  cases e1 : inF p 0 (m 3 - 1) with
  | false =>
    rw [if_pos rfl]
    refine r_aload_0 rfl ?_
    refine r_aload_0 rfl ?_
    refine r_iload_1 rfl ?_
    refine r_invvP_1 rfl (o) rfl rfl (by decide) (c_mIsPerson q p) ?_
    refine r_ifeqT rfl (by rw [e1]; rfl) ?_
    refine r_push rfl ?_
    refine r_goto rfl ?_
    refine r_puti rfl (o) rfl ?_
    rw [mo_0]
    refine r_aload_0 rfl ?_
    refine r_getf rfl (o1) (by rfl) ?_
    refine r_ifleF rfl (by rw [upd_eq]; decide) ?_
    refine r_push rfl ?_
    refine r_zret rfl (by first | decide | assumption) ?_
    rfl
  | true =>
    rw [if_neg (by decide)]
    cases e2 : inF r 0 (m 3 - 1) with
    | false =>
      rw [if_pos rfl]
      refine r_aload_0 rfl ?_
      refine r_aload_0 rfl ?_
      refine r_iload_1 rfl ?_
      refine r_invvP_1 rfl (o) rfl rfl (by decide) (c_mIsPerson q p) ?_
      refine r_ifeqF rfl (by rw [e1]; decide) ?_
      refine r_aload_0 rfl ?_
      refine r_iload_2 rfl ?_
      refine r_invvP_1 rfl (o) rfl rfl (by decide) (c_mIsPerson q r) ?_
      refine r_ifneF rfl (by rw [e2]; rfl) ?_
      refine r_push rfl ?_
      refine r_goto rfl ?_
      refine r_puti rfl (o) rfl ?_
      rw [mo_0]
      refine r_aload_0 rfl ?_
      refine r_getf rfl (o1) (by rfl) ?_
      refine r_ifleF rfl (by rw [upd_eq]; decide) ?_
      refine r_push rfl ?_
      refine r_zret rfl (by first | decide | assumption) ?_
      rfl
    | true =>
      rw [if_neg (by decide)]
      by_cases e3 : p = r
      · rw [if_pos e3]
        refine r_aload_0 rfl ?_
        refine r_aload_0 rfl ?_
        refine r_iload_1 rfl ?_
        refine r_invvP_1 rfl (o) rfl rfl (by decide) (c_mIsPerson q p) ?_
        refine r_ifeqF rfl (by rw [e1]; decide) ?_
        refine r_aload_0 rfl ?_
        refine r_iload_2 rfl ?_
        refine r_invvP_1 rfl (o) rfl rfl (by decide) (c_mIsPerson q r) ?_
        refine r_ifneT rfl (by rw [e2]; decide) ?_
        refine r_iload_1 rfl ?_
        refine r_iload_2 rfl ?_
        refine r_icneF rfl (e3) ?_
        refine r_push rfl ?_
        refine r_goto rfl ?_
        refine r_puti rfl (o) rfl ?_
        rw [mo_0]
        refine r_aload_0 rfl ?_
        refine r_getf rfl (o2) (by rfl) ?_
        refine r_ifleF rfl (by rw [upd_eq]; decide) ?_
        refine r_push rfl ?_
        refine r_zret rfl (by first | decide | assumption) ?_
        rfl
      · rw [if_neg e3]
        have f1 := e1
        have f2 := e2
        rw [v.pp.1] at f1 f2
        obtain ⟨k, hk, rfl⟩ := inF_nI (by have := v.pp.2; omega) f1
        obtain ⟨k2, hk2, rfl⟩ := inF_nI (by have := v.pp.2; omega) f2
        have hP := v.pp.2
        rw [← owes_eq v (show k < 6 by omega) (show k2 < 32 by omega)]
        refine r_aload_0 rfl ?_
        refine r_aload_0 rfl ?_
        refine r_iload_1 rfl ?_
        refine r_invvP_1 rfl (o) rfl rfl (by decide) (c_mIsPerson q _) ?_
        refine r_ifeqF rfl (by rw [e1]; decide) ?_
        refine r_aload_0 rfl ?_
        refine r_iload_2 rfl ?_
        refine r_invvP_1 rfl (o) rfl rfl (by decide) (c_mIsPerson q _) ?_
        refine r_ifneT rfl (by rw [e2]; decide) ?_
        refine r_iload_1 rfl ?_
        refine r_iload_2 rfl ?_
        refine r_icneT rfl (e3) ?_
        refine r_push rfl ?_
        refine r_puti rfl (o) rfl ?_
        rw [mo_0]
        refine r_aload_0 rfl ?_
        refine r_getf rfl (o3) (by rfl) ?_
        refine r_ifleT rfl (by rw [upd_eq]; decide) ?_
        refine r_push rfl ?_
        refine r_iload_1 rfl ?_
        refine r_ishl rfl ?_
        refine r_istore_3 rfl ?_
        refine r_push rfl ?_
        refine r_istore_4 rfl ?_
        refine wp_forH 6 (fun j L h' => h' = mh h y (upd g 0 (nI 0)) ∧ ∃ x5, L = [.ref y, .int (nI k), .int (nI k2), .int (itF (fun S => gsF m S (nS m)) ((1 : Int32) <<< (nI k &&& 31)) j), .int (nI j), x5]) (fun j L h' hj hI kont => ?_) (fun L h' hI => ?_) _ _ ⟨rfl, am_un, rfl⟩
        · obtain ⟨rfl, x5, rfl⟩ := hI
          have eit : itF (fun S => gsF m S (nS m)) ((1 : Int32) <<< (nI k &&& 31)) (j + 1) = gsF m (itF (fun S => gsF m S (nS m)) ((1 : Int32) <<< (nI k &&& 31)) j) (nS m) := rfl
          rw [eit] at kont
          generalize itF (fun S => gsF m S (nS m)) ((1 : Int32) <<< (nI k &&& 31)) j = S at *
          refine r_iload_4 rfl ?_
          refine r_push rfl ?_
          refine r_icgeF rfl (nI_lt hj (by decide)) ?_
          refine r_push rfl ?_
          refine r_istore_5 rfl ?_
          refine wp_for (nS m) (fun z => [.ref y, .int (nI k), .int (nI k2), .int (gsF m S z), .int (nI j), .int (nI z)]) (fun z hz kk => ?_) ?_
          · have i2 := is2 (v.st z hz).2.2.2.1
            rw [gsF] at kk
            by_cases A : m (72 + 6 * z) = 2
            · have ea : eg m z = false := by unfold eg; rw [decide_eq_true A]; rfl
              rw [if_neg (fun w => by rw [ea] at w; cases w.1)] at kk
              refine r_iload_5 rfl ?_
              refine r_aload_0 rfl ?_
              refine r_getf rfl (by assumption) (by rfl) ?_
              refine r_push rfl ?_
              refine r_iald rfl (r3) (show (4 : Int32) = nI 4 from rfl) (by first | assumption | omega) (by first | decide | omega) ?_
              refine r_icgeF rfl (by rw [hs]; exact nI_lt hz (by omega)) ?_
              refine r_aload_0 rfl ?_
              refine r_iload_5 rfl ?_
              refine r_push rfl ?_
              refine r_invvP_2 rfl (o3) rfl rfl (by decide) (c_os3 m3 (by omega)) ?_
              refine r_push rfl ?_
              refine r_icgeT rfl (Int32.not_lt.mp (fun w => i2.mp w A)) ?_
              refine r_iinc_5 rfl ?_
              refine r_goto rfl ?_
              rw [nI_1]
              exact kk
            · have ea : eg m z = true := by unfold eg; rw [decide_eq_false A]; rfl
              cases B : isF (gsF m S z) (m (69 + 6 * z)) with
              | true =>
                rw [if_pos ⟨ea, B⟩] at kk
                refine r_iload_5 rfl ?_
                refine r_aload_0 rfl ?_
                refine r_getf rfl (by assumption) (by rfl) ?_
                refine r_push rfl ?_
                refine r_iald rfl (r3) (show (4 : Int32) = nI 4 from rfl) (by first | assumption | omega) (by first | decide | omega) ?_
                refine r_icgeF rfl (by rw [hs]; exact nI_lt hz (by omega)) ?_
                refine r_aload_0 rfl ?_
                refine r_iload_5 rfl ?_
                refine r_push rfl ?_
                refine r_invvP_2 rfl (o3) rfl rfl (by decide) (c_os3 m3 (by omega)) ?_
                refine r_push rfl ?_
                refine r_icgeF rfl (i2.mpr A) ?_
                refine r_iload_3 rfl ?_
                refine r_aload_0 rfl ?_
                refine r_iload_5 rfl ?_
                refine r_push rfl ?_
                refine r_invvP_2 rfl (o3) rfl rfl (by decide) (c_os0 m3 (by omega)) ?_
                refine r_invP_2 rfl rfl (by decide) (c_isOf _ _) ?_
                refine r_ifeqF rfl (by rw [B]; decide) ?_
                refine r_iload_3 rfl ?_
                refine r_push rfl ?_
                refine r_aload_0 rfl ?_
                refine r_iload_5 rfl ?_
                refine r_push rfl ?_
                refine r_invvP_2 rfl (o3) rfl rfl (by decide) (c_os1 m3 (by omega)) ?_
                refine r_ishl rfl ?_
                refine r_ior rfl ?_
                refine r_istore_3 rfl ?_
                refine r_iinc_5 rfl ?_
                refine r_goto rfl ?_
                rw [nI_1]
                exact kk
              | false =>
                rw [if_neg (fun w => by rw [B] at w; cases w.2)] at kk
                refine r_iload_5 rfl ?_
                refine r_aload_0 rfl ?_
                refine r_getf rfl (by assumption) (by rfl) ?_
                refine r_push rfl ?_
                refine r_iald rfl (r3) (show (4 : Int32) = nI 4 from rfl) (by first | assumption | omega) (by first | decide | omega) ?_
                refine r_icgeF rfl (by rw [hs]; exact nI_lt hz (by omega)) ?_
                refine r_aload_0 rfl ?_
                refine r_iload_5 rfl ?_
                refine r_push rfl ?_
                refine r_invvP_2 rfl (o3) rfl rfl (by decide) (c_os3 m3 (by omega)) ?_
                refine r_push rfl ?_
                refine r_icgeF rfl (i2.mpr A) ?_
                refine r_iload_3 rfl ?_
                refine r_aload_0 rfl ?_
                refine r_iload_5 rfl ?_
                refine r_push rfl ?_
                refine r_invvP_2 rfl (o3) rfl rfl (by decide) (c_os0 m3 (by omega)) ?_
                refine r_invP_2 rfl rfl (by decide) (c_isOf _ _) ?_
                refine r_ifeqT rfl (by rw [B]; rfl) ?_
                refine r_iinc_5 rfl ?_
                refine r_goto rfl ?_
                rw [nI_1]
                exact kk
          · refine r_iload_5 rfl ?_
            refine r_aload_0 rfl ?_
            refine r_getf rfl (by assumption) (by rfl) ?_
            refine r_push rfl ?_
            refine r_iald rfl (r3) (show (4 : Int32) = nI 4 from rfl) (by first | assumption | omega) (by first | decide | omega) ?_
            refine r_icgeT rfl (by rw [hs]; exact Int32.le_refl _) ?_
            refine r_iinc_4 rfl ?_
            refine r_goto rfl ?_
            rw [nI_1]
            exact kont _ _ ⟨rfl, _, rfl⟩
        · obtain ⟨rfl, x5, rfl⟩ := hI
          refine r_iload_4 rfl ?_
          refine r_push rfl ?_
          refine r_icgeT rfl (by decide) ?_
          refine r_iload_3 rfl ?_
          refine r_iload_2 rfl ?_
          refine r_invP_2 rfl rfl (by decide) (c_isOf _ _) ?_
          refine r_zret rfl (bI_01 _) ?_
          rfl
end
