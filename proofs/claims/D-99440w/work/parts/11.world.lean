/-! WORLD: the picture of a World's cells, what its reading methods answer -/
set_option maxRecDepth 100000
/-- a row of n ints, nothing behind them -/
def cl (n : Nat) (f : Nat → Int32) : Nat → Int32 := fun j => if j < n then f j else 0
theorem cl_in {n : Nat} {f : Nat → Int32} {j : Nat} (h : j < n) : cl n f j = f j := if_pos h
theorem cl_congr {n : Nat} {f g : Nat → Int32} (h : ∀ j, j < n → f j = g j) : cl n f = cl n g := by
  funext j
  unfold cl
  by_cases q : j < n
  · rw [if_pos q, if_pos q, h j q]
  · rw [if_neg q, if_neg q]
theorem cl_upd {n : Nat} {f : Nat → Int32} {k : Nat} {v : Int32} (h : k < n) : upd (cl n f) k v = cl n (upd f k v) := by
  funext j
  unfold cl upd
  by_cases q : j = k
  · subst q
    rw [if_pos rfl, if_pos h, if_pos rfl]
  · rw [if_neg q, if_neg q]
/-! the row's places: 0 texts, 1 lines, 2 size, 3 people, 4 stones, 5 hour, 6 limit, 7 logs, 8 seed, 9.. slopes, 21.. porches, 33+6p.. purse back place goal tired hurt, 69+6s.. debtor lender weight state bearer at, 129.. log -/
def nP (m : Nat → Int32) : Nat := (m 3).toNatClampNeg
def nS (m : Nat → Int32) : Nat := (m 4).toNatClampNeg
def nL (m : Nat → Int32) : Nat := (m 7).toNatClampNeg
/-- a whole number below n -/
def isB (x : Int32) (n : Nat) : Prop := ∃ q : Nat, q < n ∧ x = nI q
def wornF (m : Nat → Int32) (x : Int32) : Int32 := bsF (fun s => decide (m (72 + 6 * s) = 0) && decide (m (73 + 6 * s) = x)) (nS m)
def weightF (m : Nat → Int32) (set : Int32) : Int32 := smF (fun s => if isF set (nI s) = true then m (71 + 6 * s) else 0) (nS m)
def loadF (m : Nat → Int32) (x : Int32) : Int32 := weightF m (wornF m x)
def stateF (m : Nat → Int32) (k : Int32) : Int32 := bsF (fun s => decide (m (72 + 6 * s) = k)) (nS m)
def unpaidF (m : Nat → Int32) : Int32 := stateF m 0 ||| stateF m 1
def owedF (m : Nat → Int32) (x : Int32) : Int32 := bsF (fun s => !decide (m (72 + 6 * s) = 2) && decide (m (69 + 6 * s) = x)) (nS m)
def dueF (m : Nat → Int32) (x : Int32) : Int32 := bsF (fun s => !decide (m (72 + 6 * s) = 2) && decide (m (70 + 6 * s) = x)) (nS m)
def laidF (m : Nat → Int32) (q : Int32) : Int32 := bsF (fun s => decide (m (72 + 6 * s) = 1) && decide (m (74 + 6 * s) = q)) (nS m)
def peopleF (m : Nat → Int32) (q : Int32) : Int32 := bsF (fun p => decide (m (35 + 6 * p) = q)) (nP m)
def bowF (m : Nat → Int32) (p : Nat) : Bool := !decide (m (38 + 6 * p) = 0) || decide (m (37 + 6 * p) = 99) || decide (m (34 + 6 * p) < loadF m (nI p))
def hurtF (m : Nat → Int32) : Int32 := bsF (fun p => !decide (m (38 + 6 * p) = 0)) (nP m)
def pursesF (m : Nat → Int32) : Int32 := smF (fun p => m (33 + 6 * p)) (nP m)
/-- a row that can be -/
def VR (m : Nat → Int32) : Prop := ((m 3 = nI (nP m) ∧ nP m ≤ 6) ∧ (m 4 = nI (nS m) ∧ nS m ≤ 10) ∧ (m 7 = nI (nL m) ∧ nL m ≤ 60)) ∧ (isB (m 0) 13 ∧ (m 1 = -1 ∨ isB (m 1) 13)) ∧ (∀ q, q < 12 → isB (m (9 + q)) 4 ∧ isB (m (21 + q)) 2)
  ∧ (∀ p, p < nP m → isB (m (35 + 6 * p)) 12 ∧ isB (m (36 + 6 * p)) 12 ∧ isB (m (38 + 6 * p)) 2)
  ∧ (∀ s, s < nS m → isB (m (69 + 6 * s)) (nP m) ∧ isB (m (70 + 6 * s)) (nP m) ∧ (isB (m (71 + 6 * s)) 41 ∧ m (71 + 6 * s) ≠ 0) ∧ isB (m (72 + 6 * s)) 3 ∧ (m (72 + 6 * s) = 0 → isB (m (73 + 6 * s)) (nP m)) ∧ (m (72 + 6 * s) = 1 → isB (m (74 + 6 * s)) 12))
/-- who wears a stone, or where it lies, as one row -/
def BY (b m : Nat → Int32) : Prop := ∀ s, s < nS m → (m (72 + 6 * s) = 0 → b s = m (73 + 6 * s)) ∧ (m (72 + 6 * s) = 1 → b s = m (74 + 6 * s))
def wobj (w : Nat) (m : Nat → Int32) (l : Value) : List Value := [.int (m 0), .int (m 3), .int (m 4), .int (m 6), .int (m 5), .int (m 7), .int (m 8), .ref (w + 1), .ref (w + 2), .ref (w + 3), .ref (w + 4), .ref (w + 5), .ref (w + 6), .ref (w + 7), .ref (w + 8), .ref (w + 9), .ref (w + 10), .ref (w + 11), .ref (w + 12), .ref (w + 13), .ref (w + 14), l]
def wcl (w : Nat) (m b : Nat → Int32) (l : Value) : Nat → am_C
  | 0 => .inr (1, wobj w m l)
  | 1 => .inl (0, 6, .inl (cl 6 fun p => m (33 + 6 * p)))
  | 2 => .inl (0, 6, .inl (cl 6 fun p => m (34 + 6 * p)))
  | 3 => .inl (0, 6, .inl (cl 6 fun p => m (35 + 6 * p)))
  | 4 => .inl (0, 6, .inl (cl 6 fun p => m (36 + 6 * p)))
  | 5 => .inl (0, 6, .inl (cl 6 fun p => m (37 + 6 * p)))
  | 6 => .inl (1, 6, .inl (cl 6 fun p => m (38 + 6 * p)))
  | 7 => .inl (1, 12, .inl (cl 12 fun q => m (21 + q)))
  | 8 => .inl (0, 12, .inl (cl 12 fun q => m (9 + q)))
  | 9 => .inl (0, 10, .inl (cl 10 fun s => m (69 + 6 * s)))
  | 10 => .inl (0, 10, .inl (cl 10 fun s => m (70 + 6 * s)))
  | 11 => .inl (0, 10, .inl (cl 10 fun s => m (71 + 6 * s)))
  | 12 => .inl (0, 10, .inl (cl 10 fun s => m (72 + 6 * s)))
  | 13 => .inl (0, 10, .inl (cl 10 b))
  | _ => .inl (0, 240, .inl (cl 240 fun k => m (129 + k)))
/-- the World at w holds the row m (b: its row 'by'; l: its law) -/
def WA (h : am_H) (w : Nat) (m b : Nat → Int32) (l : Value) : Prop := ∀ i, i < 15 → h.1 (w + i) = some (wcl w m b l i)
section
variable {h : am_H} {w : Nat} {m b : Nat → Int32} {l : Value}
theorem wa_o (q : WA h w m b l) : h.1 w = some (.inr (1, wobj w m l)) := q 0 (by decide)
theorem wa_pu (q : WA h w m b l) : h.1 (w + 1) = some (.inl (0, 6, .inl (cl 6 fun p => m (33 + 6 * p)))) := q 1 (by decide)
theorem wa_ba (q : WA h w m b l) : h.1 (w + 2) = some (.inl (0, 6, .inl (cl 6 fun p => m (34 + 6 * p)))) := q 2 (by decide)
theorem wa_at (q : WA h w m b l) : h.1 (w + 3) = some (.inl (0, 6, .inl (cl 6 fun p => m (35 + 6 * p)))) := q 3 (by decide)
theorem wa_go (q : WA h w m b l) : h.1 (w + 4) = some (.inl (0, 6, .inl (cl 6 fun p => m (36 + 6 * p)))) := q 4 (by decide)
theorem wa_ti (q : WA h w m b l) : h.1 (w + 5) = some (.inl (0, 6, .inl (cl 6 fun p => m (37 + 6 * p)))) := q 5 (by decide)
theorem wa_hu (q : WA h w m b l) : h.1 (w + 6) = some (.inl (1, 6, .inl (cl 6 fun p => m (38 + 6 * p)))) := q 6 (by decide)
theorem wa_po (q : WA h w m b l) : h.1 (w + 7) = some (.inl (1, 12, .inl (cl 12 fun q => m (21 + q)))) := q 7 (by decide)
theorem wa_sl (q : WA h w m b l) : h.1 (w + 8) = some (.inl (0, 12, .inl (cl 12 fun q => m (9 + q)))) := q 8 (by decide)
theorem wa_de (q : WA h w m b l) : h.1 (w + 9) = some (.inl (0, 10, .inl (cl 10 fun s => m (69 + 6 * s)))) := q 9 (by decide)
theorem wa_le (q : WA h w m b l) : h.1 (w + 10) = some (.inl (0, 10, .inl (cl 10 fun s => m (70 + 6 * s)))) := q 10 (by decide)
theorem wa_we (q : WA h w m b l) : h.1 (w + 11) = some (.inl (0, 10, .inl (cl 10 fun s => m (71 + 6 * s)))) := q 11 (by decide)
theorem wa_st (q : WA h w m b l) : h.1 (w + 12) = some (.inl (0, 10, .inl (cl 10 fun s => m (72 + 6 * s)))) := q 12 (by decide)
theorem wa_by (q : WA h w m b l) : h.1 (w + 13) = some (.inl (0, 10, .inl (cl 10 b))) := q 13 (by decide)
theorem wa_lo (q : WA h w m b l) : h.1 (w + 14) = some (.inl (0, 240, .inl (cl 240 fun k => m (129 + k)))) := q 14 (by decide)
theorem VR.pp (v : VR m) : m 3 = nI (nP m) ∧ nP m ≤ 6 := v.1.1
theorem VR.ss (v : VR m) : m 4 = nI (nS m) ∧ nS m ≤ 10 := v.1.2.1
theorem VR.lo (v : VR m) : m 7 = nI (nL m) ∧ nL m ≤ 60 := v.1.2.2
theorem VR.pl (v : VR m) : ∀ q, q < 12 → isB (m (9 + q)) 4 ∧ isB (m (21 + q)) 2 := v.2.2.1
theorem VR.pe (v : VR m) : ∀ p, p < nP m → isB (m (35 + 6 * p)) 12 ∧ isB (m (36 + 6 * p)) 12 ∧ isB (m (38 + 6 * p)) 2 := v.2.2.2.1
theorem VR.st (v : VR m) : ∀ s, s < nS m → isB (m (69 + 6 * s)) (nP m) ∧ isB (m (70 + 6 * s)) (nP m) ∧ (isB (m (71 + 6 * s)) 41 ∧ m (71 + 6 * s) ≠ 0) ∧ isB (m (72 + 6 * s)) 3 ∧ (m (72 + 6 * s) = 0 → isB (m (73 + 6 * s)) (nP m)) ∧ (m (72 + 6 * s) = 1 → isB (m (74 + 6 * s)) 12) := v.2.2.2.2
variable {G : am_G}
theorem c_wornBy (q : WA h w m b l) (v : VR m) (y : BY b m) (x : Int32) : Vc G 0 m_X2_wornBy [.ref w, .int x] h (.int (wornF m x)) := by
  obtain ⟨hs, hs10⟩ := v.ss
  have o := wa_o q; have a1 := wa_st q; have a2 := wa_by q
  refine wc_in mt_X2_wornBy rfl (L := [.ref w, .int x, am_un, am_un]) rfl ?_
  refine r_push rfl ?_
  refine r_istore_2 rfl ?_
  refine r_push rfl ?_
  refine r_istore_3 rfl ?_
  refine wp_for (nS m) (fun j => [.ref w, .int x, .int (bsF (fun s => decide (m (72 + 6 * s) = 0) && decide (m (73 + 6 * s) = x)) j), .int (nI j)]) (fun j hj k => ?_) ?_
  · have hj' : j < 10 := by omega
    obtain ⟨y0, y1⟩ := y j hj
    refine r_iload_3 rfl ?_
    refine r_aload_0 rfl ?_
    refine r_getf rfl (by assumption) (by rfl) ?_
    refine r_icgeF rfl (by rw [hs]; exact nI_lt hj (by omega)) ?_
    refine r_iload_2 rfl ?_
    refine r_aload_0 rfl ?_
    refine r_getf rfl (by assumption) (by rfl) ?_
    refine r_iload_3 rfl ?_
    refine r_iald rfl (by assumption) (by rfl) (by first | assumption | omega) (by decide) ?_
    refine r_ifne rfl (fun c_19 => ?_) (fun c_19 => ?_)
    · refine r_push rfl ?_
      refine r_ior rfl ?_
      refine r_istore_2 rfl ?_
      refine r_iinc_3 rfl ?_
      refine r_goto rfl ?_
      simp only [cl_in hj'] at *
      try rw [y0 c_19] at c_29
      first | (rw [bsF_t (by simp [*]), nI_succ] at k; exact k) | (rw [bsF_f (by simp [*]), nI_succ] at k; exact k)
    · refine r_aload_0 rfl ?_
      refine r_getf rfl (by assumption) (by rfl) ?_
      refine r_iload_3 rfl ?_
      refine r_iald rfl (by assumption) (by rfl) (by first | assumption | omega) (by decide) ?_
      refine r_iload_1 rfl ?_
      refine r_icne rfl (fun c_29 => ?_) (fun c_29 => ?_)
      · refine r_push rfl ?_
        refine r_ior rfl ?_
        refine r_istore_2 rfl ?_
        refine r_iinc_3 rfl ?_
        refine r_goto rfl ?_
        simp only [cl_in hj'] at *
        try rw [y0 c_19] at c_29
        first | (rw [bsF_t (by simp [*]), nI_succ] at k; exact k) | (rw [bsF_f (by simp [*]), nI_succ] at k; exact k)
      · refine r_push rfl ?_
        refine r_iload_3 rfl ?_
        refine r_ishl rfl ?_
        refine r_goto rfl ?_
        refine r_ior rfl ?_
        refine r_istore_2 rfl ?_
        refine r_iinc_3 rfl ?_
        refine r_goto rfl ?_
        simp only [cl_in hj'] at *
        try rw [y0 c_19] at c_29
        first | (rw [bsF_t (by simp [*]), nI_succ] at k; exact k) | (rw [bsF_f (by simp [*]), nI_succ] at k; exact k)
  · refine r_iload_3 rfl ?_
    refine r_aload_0 rfl ?_
    refine r_getf rfl (by assumption) (by rfl) ?_
    refine r_icgeT rfl (by rw [hs]; exact Int32.le_refl _) ?_
    refine r_iload_2 rfl ?_
    refine r_iret rfl ?_
    rfl
theorem c_weightOf (q : WA h w m b l) (v : VR m) (x : Int32) : Vc G 1 m_X2_weightOf [.ref w, .int x] h (.int (weightF m x)) := by
  obtain ⟨hs, hs10⟩ := v.ss
  have o := wa_o q; have a1 := wa_we q
  refine wc_in mt_X2_weightOf rfl (L := [.ref w, .int x, am_un, am_un]) rfl ?_
  refine r_push rfl ?_
  refine r_istore_2 rfl ?_
  refine r_push rfl ?_
  refine r_istore_3 rfl ?_
  refine wp_for (nS m) (fun j => [.ref w, .int x, .int (smF (fun s => if isF x (nI s) = true then m (71 + 6 * s) else 0) j), .int (nI j)]) (fun j hj k => ?_) ?_
  · have hj' : j < 10 := by omega
    simp only [smF, nI_succ] at k
    refine r_iload_3 rfl ?_
    refine r_aload_0 rfl ?_
    refine r_getf rfl (by assumption) (by rfl) ?_
    refine r_icgeF rfl (by rw [hs]; exact nI_lt hj (by omega)) ?_
    refine r_iload_2 rfl ?_
    refine r_iload_1 rfl ?_
    refine r_iload_3 rfl ?_
    refine r_invP_2 rfl rfl (by decide) (c_has _ _) ?_
    refine r_ifeq rfl (fun c_18 => ?_) (fun c_18 => ?_)
    · refine r_push rfl ?_
      refine r_iadd rfl ?_
      refine r_istore_2 rfl ?_
      refine r_iinc_3 rfl ?_
      refine r_goto rfl ?_
      simp only [cl_in hj', bI_0] at *
      simp only [c_18] at k; exact k
    · refine r_aload_0 rfl ?_
      refine r_getf rfl (by assumption) (by rfl) ?_
      refine r_iload_3 rfl ?_
      refine r_iald rfl (by assumption) (by rfl) (by first | assumption | omega) (by decide) ?_
      refine r_goto rfl ?_
      refine r_iadd rfl ?_
      refine r_istore_2 rfl ?_
      refine r_iinc_3 rfl ?_
      refine r_goto rfl ?_
      simp only [cl_in hj', bI_0] at *
      simp only [c_18] at k; exact k
  · refine r_iload_3 rfl ?_
    refine r_aload_0 rfl ?_
    refine r_getf rfl (by assumption) (by rfl) ?_
    refine r_icgeT rfl (by rw [hs]; exact Int32.le_refl _) ?_
    refine r_iload_2 rfl ?_
    refine r_iret rfl ?_
    rfl
theorem c_load (q : WA h w m b l) (v : VR m) (y : BY b m) (x : Int32) : Vc G 2 m_X2_load [.ref w, .int x] h (.int (loadF m x)) := by
  have o := wa_o q
  refine wc_in mt_X2_load rfl (L := [.ref w, .int x]) rfl ?_
  refine r_aload_0 rfl ?_
  refine r_aload_0 rfl ?_
  refine r_iload_1 rfl ?_
  refine r_invvP_1 rfl (by assumption) rfl rfl (by decide) (c_wornBy q v y x) ?_
  refine r_invvP_1 rfl (by assumption) rfl rfl (by decide) (c_weightOf q v _) ?_
  refine r_iret rfl ?_
  rfl
theorem c_ofState (q : WA h w m b l) (v : VR m) (x : Int32) : Vc G 0 m_X2_ofState [.ref w, .int x] h (.int (stateF m x)) := by
  obtain ⟨hs, hs10⟩ := v.ss
  have o := wa_o q; have a1 := wa_st q
  refine wc_in mt_X2_ofState rfl (L := [.ref w, .int x, am_un, am_un]) rfl ?_
  refine r_push rfl ?_
  refine r_istore_2 rfl ?_
  refine r_push rfl ?_
  refine r_istore_3 rfl ?_
  refine wp_for (nS m) (fun j => [.ref w, .int x, .int (bsF (fun s => decide (m (72 + 6 * s) = x)) j), .int (nI j)]) (fun j hj k => ?_) ?_
  · have hj' : j < 10 := by omega
    refine r_iload_3 rfl ?_
    refine r_aload_0 rfl ?_
    refine r_getf rfl (by assumption) (by rfl) ?_
    refine r_icgeF rfl (by rw [hs]; exact nI_lt hj (by omega)) ?_
    refine r_iload_2 rfl ?_
    refine r_aload_0 rfl ?_
    refine r_getf rfl (by assumption) (by rfl) ?_
    refine r_iload_3 rfl ?_
    refine r_iald rfl (by assumption) (by rfl) (by first | assumption | omega) (by decide) ?_
    refine r_iload_1 rfl ?_
    refine r_icne rfl (fun c_20 => ?_) (fun c_20 => ?_)
    · refine r_push rfl ?_
      refine r_ior rfl ?_
      refine r_istore_2 rfl ?_
      refine r_iinc_3 rfl ?_
      refine r_goto rfl ?_
      simp only [cl_in hj'] at *
      first | (rw [bsF_t (by simp [*]), nI_succ] at k; exact k) | (rw [bsF_f (by simp [*]), nI_succ] at k; exact k)
    · refine r_push rfl ?_
      refine r_iload_3 rfl ?_
      refine r_ishl rfl ?_
      refine r_goto rfl ?_
      refine r_ior rfl ?_
      refine r_istore_2 rfl ?_
      refine r_iinc_3 rfl ?_
      refine r_goto rfl ?_
      simp only [cl_in hj'] at *
      first | (rw [bsF_t (by simp [*]), nI_succ] at k; exact k) | (rw [bsF_f (by simp [*]), nI_succ] at k; exact k)
  · refine r_iload_3 rfl ?_
    refine r_aload_0 rfl ?_
    refine r_getf rfl (by assumption) (by rfl) ?_
    refine r_icgeT rfl (by rw [hs]; exact Int32.le_refl _) ?_
    refine r_iload_2 rfl ?_
    refine r_iret rfl ?_
    rfl
theorem c_laidAt (q : WA h w m b l) (v : VR m) (y : BY b m) (x : Int32) : Vc G 0 m_X2_laidAt [.ref w, .int x] h (.int (laidF m x)) := by
  obtain ⟨hs, hs10⟩ := v.ss
  have o := wa_o q; have a1 := wa_st q; have a2 := wa_by q
  refine wc_in mt_X2_laidAt rfl (L := [.ref w, .int x, am_un, am_un]) rfl ?_
  refine r_push rfl ?_
  refine r_istore_2 rfl ?_
  refine r_push rfl ?_
  refine r_istore_3 rfl ?_
  refine wp_for (nS m) (fun j => [.ref w, .int x, .int (bsF (fun s => decide (m (72 + 6 * s) = 1) && decide (m (74 + 6 * s) = x)) j), .int (nI j)]) (fun j hj k => ?_) ?_
  · have hj' : j < 10 := by omega
    obtain ⟨y0, y1⟩ := y j hj
    refine r_iload_3 rfl ?_
    refine r_aload_0 rfl ?_
    refine r_getf rfl (by assumption) (by rfl) ?_
    refine r_icgeF rfl (by rw [hs]; exact nI_lt hj (by omega)) ?_
    refine r_iload_2 rfl ?_
    refine r_aload_0 rfl ?_
    refine r_getf rfl (by assumption) (by rfl) ?_
    refine r_iload_3 rfl ?_
    refine r_iald rfl (by assumption) (by rfl) (by first | assumption | omega) (by decide) ?_
    refine r_push rfl ?_
    refine r_icne rfl (fun c_20 => ?_) (fun c_20 => ?_)
    · refine r_push rfl ?_
      refine r_ior rfl ?_
      refine r_istore_2 rfl ?_
      refine r_iinc_3 rfl ?_
      refine r_goto rfl ?_
      simp only [cl_in hj'] at *
      try rw [y1 c_20] at c_30
      try clear y0
      first | (rw [bsF_t (by simp [*]), nI_succ] at k; exact k) | (rw [bsF_f (by simp [*]), nI_succ] at k; exact k)
    · refine r_aload_0 rfl ?_
      refine r_getf rfl (by assumption) (by rfl) ?_
      refine r_iload_3 rfl ?_
      refine r_iald rfl (by assumption) (by rfl) (by first | assumption | omega) (by decide) ?_
      refine r_iload_1 rfl ?_
      refine r_icne rfl (fun c_30 => ?_) (fun c_30 => ?_)
      · refine r_push rfl ?_
        refine r_ior rfl ?_
        refine r_istore_2 rfl ?_
        refine r_iinc_3 rfl ?_
        refine r_goto rfl ?_
        simp only [cl_in hj'] at *
        try rw [y1 c_20] at c_30
        try clear y0
        first | (rw [bsF_t (by simp [*]), nI_succ] at k; exact k) | (rw [bsF_f (by simp [*]), nI_succ] at k; exact k)
      · refine r_push rfl ?_
        refine r_iload_3 rfl ?_
        refine r_ishl rfl ?_
        refine r_goto rfl ?_
        refine r_ior rfl ?_
        refine r_istore_2 rfl ?_
        refine r_iinc_3 rfl ?_
        refine r_goto rfl ?_
        simp only [cl_in hj'] at *
        try rw [y1 c_20] at c_30
        try clear y0
        first | (rw [bsF_t (by simp [*]), nI_succ] at k; exact k) | (rw [bsF_f (by simp [*]), nI_succ] at k; exact k)
  · refine r_iload_3 rfl ?_
    refine r_aload_0 rfl ?_
    refine r_getf rfl (by assumption) (by rfl) ?_
    refine r_icgeT rfl (by rw [hs]; exact Int32.le_refl _) ?_
    refine r_iload_2 rfl ?_
    refine r_iret rfl ?_
    rfl
theorem c_owedBy (q : WA h w m b l) (v : VR m) (x : Int32) : Vc G 0 m_X2_owedBy [.ref w, .int x] h (.int (owedF m x)) := by
  obtain ⟨hs, hs10⟩ := v.ss
  have o := wa_o q; have a1 := wa_st q; have a2 := wa_de q
  refine wc_in mt_X2_owedBy rfl (L := [.ref w, .int x, am_un, am_un]) rfl ?_
  refine r_push rfl ?_
  refine r_istore_2 rfl ?_
  refine r_push rfl ?_
  refine r_istore_3 rfl ?_
  refine wp_for (nS m) (fun j => [.ref w, .int x, .int (bsF (fun s => !decide (m (72 + 6 * s) = 2) && decide (m (69 + 6 * s) = x)) j), .int (nI j)]) (fun j hj k => ?_) ?_
  · have hj' : j < 10 := by omega
    refine r_iload_3 rfl ?_
    refine r_aload_0 rfl ?_
    refine r_getf rfl (by assumption) (by rfl) ?_
    refine r_icgeF rfl (by rw [hs]; exact nI_lt hj (by omega)) ?_
    refine r_iload_2 rfl ?_
    refine r_aload_0 rfl ?_
    refine r_getf rfl (by assumption) (by rfl) ?_
    refine r_iload_3 rfl ?_
    refine r_iald rfl (by assumption) (by rfl) (by first | assumption | omega) (by decide) ?_
    refine r_push rfl ?_
    refine r_iceq rfl (fun c_20 => ?_) (fun c_20 => ?_)
    · refine r_push rfl ?_
      refine r_ior rfl ?_
      refine r_istore_2 rfl ?_
      refine r_iinc_3 rfl ?_
      refine r_goto rfl ?_
      simp only [cl_in hj'] at *
      first | (rw [bsF_t (by simp [*]), nI_succ] at k; exact k) | (rw [bsF_f (by simp [*]), nI_succ] at k; exact k)
    · refine r_aload_0 rfl ?_
      refine r_getf rfl (by assumption) (by rfl) ?_
      refine r_iload_3 rfl ?_
      refine r_iald rfl (by assumption) (by rfl) (by first | assumption | omega) (by decide) ?_
      refine r_iload_1 rfl ?_
      refine r_icne rfl (fun c_30 => ?_) (fun c_30 => ?_)
      · refine r_push rfl ?_
        refine r_ior rfl ?_
        refine r_istore_2 rfl ?_
        refine r_iinc_3 rfl ?_
        refine r_goto rfl ?_
        simp only [cl_in hj'] at *
        first | (rw [bsF_t (by simp [*]), nI_succ] at k; exact k) | (rw [bsF_f (by simp [*]), nI_succ] at k; exact k)
      · refine r_push rfl ?_
        refine r_iload_3 rfl ?_
        refine r_ishl rfl ?_
        refine r_goto rfl ?_
        refine r_ior rfl ?_
        refine r_istore_2 rfl ?_
        refine r_iinc_3 rfl ?_
        refine r_goto rfl ?_
        simp only [cl_in hj'] at *
        first | (rw [bsF_t (by simp [*]), nI_succ] at k; exact k) | (rw [bsF_f (by simp [*]), nI_succ] at k; exact k)
  · refine r_iload_3 rfl ?_
    refine r_aload_0 rfl ?_
    refine r_getf rfl (by assumption) (by rfl) ?_
    refine r_icgeT rfl (by rw [hs]; exact Int32.le_refl _) ?_
    refine r_iload_2 rfl ?_
    refine r_iret rfl ?_
    rfl
theorem c_dueTo (q : WA h w m b l) (v : VR m) (x : Int32) : Vc G 0 m_X2_dueTo [.ref w, .int x] h (.int (dueF m x)) := by
  obtain ⟨hs, hs10⟩ := v.ss
  have o := wa_o q; have a1 := wa_st q; have a2 := wa_le q
  refine wc_in mt_X2_dueTo rfl (L := [.ref w, .int x, am_un, am_un]) rfl ?_
  refine r_push rfl ?_
  refine r_istore_2 rfl ?_
  refine r_push rfl ?_
  refine r_istore_3 rfl ?_
  refine wp_for (nS m) (fun j => [.ref w, .int x, .int (bsF (fun s => !decide (m (72 + 6 * s) = 2) && decide (m (70 + 6 * s) = x)) j), .int (nI j)]) (fun j hj k => ?_) ?_
  · have hj' : j < 10 := by omega
    refine r_iload_3 rfl ?_
    refine r_aload_0 rfl ?_
    refine r_getf rfl (by assumption) (by rfl) ?_
    refine r_icgeF rfl (by rw [hs]; exact nI_lt hj (by omega)) ?_
    refine r_iload_2 rfl ?_
    refine r_aload_0 rfl ?_
    refine r_getf rfl (by assumption) (by rfl) ?_
    refine r_iload_3 rfl ?_
    refine r_iald rfl (by assumption) (by rfl) (by first | assumption | omega) (by decide) ?_
    refine r_push rfl ?_
    refine r_iceq rfl (fun c_20 => ?_) (fun c_20 => ?_)
    · refine r_push rfl ?_
      refine r_ior rfl ?_
      refine r_istore_2 rfl ?_
      refine r_iinc_3 rfl ?_
      refine r_goto rfl ?_
      simp only [cl_in hj'] at *
      first | (rw [bsF_t (by simp [*]), nI_succ] at k; exact k) | (rw [bsF_f (by simp [*]), nI_succ] at k; exact k)
    · refine r_aload_0 rfl ?_
      refine r_getf rfl (by assumption) (by rfl) ?_
      refine r_iload_3 rfl ?_
      refine r_iald rfl (by assumption) (by rfl) (by first | assumption | omega) (by decide) ?_
      refine r_iload_1 rfl ?_
      refine r_icne rfl (fun c_30 => ?_) (fun c_30 => ?_)
      · refine r_push rfl ?_
        refine r_ior rfl ?_
        refine r_istore_2 rfl ?_
        refine r_iinc_3 rfl ?_
        refine r_goto rfl ?_
        simp only [cl_in hj'] at *
        first | (rw [bsF_t (by simp [*]), nI_succ] at k; exact k) | (rw [bsF_f (by simp [*]), nI_succ] at k; exact k)
      · refine r_push rfl ?_
        refine r_iload_3 rfl ?_
        refine r_ishl rfl ?_
        refine r_goto rfl ?_
        refine r_ior rfl ?_
        refine r_istore_2 rfl ?_
        refine r_iinc_3 rfl ?_
        refine r_goto rfl ?_
        simp only [cl_in hj'] at *
        first | (rw [bsF_t (by simp [*]), nI_succ] at k; exact k) | (rw [bsF_f (by simp [*]), nI_succ] at k; exact k)
  · refine r_iload_3 rfl ?_
    refine r_aload_0 rfl ?_
    refine r_getf rfl (by assumption) (by rfl) ?_
    refine r_icgeT rfl (by rw [hs]; exact Int32.le_refl _) ?_
    refine r_iload_2 rfl ?_
    refine r_iret rfl ?_
    rfl
theorem c_peopleAt (q : WA h w m b l) (v : VR m) (x : Int32) : Vc G 0 m_X2_peopleAt [.ref w, .int x] h (.int (peopleF m x)) := by
  obtain ⟨hs, hs10⟩ := v.pp
  have o := wa_o q; have a1 := wa_at q
  refine wc_in mt_X2_peopleAt rfl (L := [.ref w, .int x, am_un, am_un]) rfl ?_
  refine r_push rfl ?_
  refine r_istore_2 rfl ?_
  refine r_push rfl ?_
  refine r_istore_3 rfl ?_
  refine wp_for (nP m) (fun j => [.ref w, .int x, .int (bsF (fun p => decide (m (35 + 6 * p) = x)) j), .int (nI j)]) (fun j hj k => ?_) ?_
  · have hj' : j < 6 := by omega
    refine r_iload_3 rfl ?_
    refine r_aload_0 rfl ?_
    refine r_getf rfl (by assumption) (by rfl) ?_
    refine r_icgeF rfl (by rw [hs]; exact nI_lt hj (by omega)) ?_
    refine r_iload_2 rfl ?_
    refine r_aload_0 rfl ?_
    refine r_getf rfl (by assumption) (by rfl) ?_
    refine r_iload_3 rfl ?_
    refine r_iald rfl (by assumption) (by rfl) (by first | assumption | omega) (by decide) ?_
    refine r_iload_1 rfl ?_
    refine r_icne rfl (fun c_20 => ?_) (fun c_20 => ?_)
    · refine r_push rfl ?_
      refine r_ior rfl ?_
      refine r_istore_2 rfl ?_
      refine r_iinc_3 rfl ?_
      refine r_goto rfl ?_
      simp only [cl_in hj'] at *
      first | (rw [bsF_t (by simp [*]), nI_succ] at k; exact k) | (rw [bsF_f (by simp [*]), nI_succ] at k; exact k)
    · refine r_push rfl ?_
      refine r_iload_3 rfl ?_
      refine r_ishl rfl ?_
      refine r_goto rfl ?_
      refine r_ior rfl ?_
      refine r_istore_2 rfl ?_
      refine r_iinc_3 rfl ?_
      refine r_goto rfl ?_
      simp only [cl_in hj'] at *
      first | (rw [bsF_t (by simp [*]), nI_succ] at k; exact k) | (rw [bsF_f (by simp [*]), nI_succ] at k; exact k)
  · refine r_iload_3 rfl ?_
    refine r_aload_0 rfl ?_
    refine r_getf rfl (by assumption) (by rfl) ?_
    refine r_icgeT rfl (by rw [hs]; exact Int32.le_refl _) ?_
    refine r_iload_2 rfl ?_
    refine r_iret rfl ?_
    rfl
theorem c_hurtOnes (q : WA h w m b l) (v : VR m) : Vc G 0 m_X2_hurtOnes [.ref w] h (.int (hurtF m)) := by
  obtain ⟨hs, hs10⟩ := v.pp
  have o := wa_o q; have a1 := wa_hu q
  refine wc_in mt_X2_hurtOnes rfl (L := [.ref w, am_un, am_un]) rfl ?_
  refine r_push rfl ?_
  refine r_istore_1 rfl ?_
  refine r_push rfl ?_
  refine r_istore_2 rfl ?_
  refine wp_for (nP m) (fun j => [.ref w, .int (bsF (fun p => !decide (m (38 + 6 * p) = 0)) j), .int (nI j)]) (fun j hj k => ?_) ?_
  · have hj' : j < 6 := by omega
    refine r_iload_2 rfl ?_
    refine r_aload_0 rfl ?_
    refine r_getf rfl (by assumption) (by rfl) ?_
    refine r_icgeF rfl (by rw [hs]; exact nI_lt hj (by omega)) ?_
    refine r_iload_1 rfl ?_
    refine r_aload_0 rfl ?_
    refine r_getf rfl (by assumption) (by rfl) ?_
    refine r_iload_2 rfl ?_
    refine r_zald rfl (by assumption) (by rfl) (by first | assumption | omega) (by decide) ?_
    refine r_ifeq rfl (fun c_19 => ?_) (fun c_19 => ?_)
    · refine r_push rfl ?_
      refine r_ior rfl ?_
      refine r_istore_1 rfl ?_
      refine r_iinc_2 rfl ?_
      refine r_goto rfl ?_
      simp only [cl_in hj'] at *
      first | (rw [bsF_t (by simp [*]), nI_succ] at k; exact k) | (rw [bsF_f (by simp [*]), nI_succ] at k; exact k)
    · refine r_push rfl ?_
      refine r_iload_2 rfl ?_
      refine r_ishl rfl ?_
      refine r_goto rfl ?_
      refine r_ior rfl ?_
      refine r_istore_1 rfl ?_
      refine r_iinc_2 rfl ?_
      refine r_goto rfl ?_
      simp only [cl_in hj'] at *
      first | (rw [bsF_t (by simp [*]), nI_succ] at k; exact k) | (rw [bsF_f (by simp [*]), nI_succ] at k; exact k)
  · refine r_iload_2 rfl ?_
    refine r_aload_0 rfl ?_
    refine r_getf rfl (by assumption) (by rfl) ?_
    refine r_icgeT rfl (by rw [hs]; exact Int32.le_refl _) ?_
    refine r_iload_1 rfl ?_
    refine r_iret rfl ?_
    rfl
theorem c_unpaid (q : WA h w m b l) (v : VR m) : Vc G 1 m_X2_unpaid [.ref w] h (.int (unpaidF m)) := by
  have o := wa_o q
  refine wc_in mt_X2_unpaid rfl (L := [.ref w]) rfl ?_
  refine r_aload_0 rfl ?_
  refine r_push rfl ?_
  refine r_invvP_1 rfl (by assumption) rfl rfl (by decide) (c_ofState q v _) ?_
  refine r_aload_0 rfl ?_
  refine r_push rfl ?_
  refine r_invvP_1 rfl (by assumption) rfl rfl (by decide) (c_ofState q v _) ?_
  refine r_ior rfl ?_
  refine r_iret rfl ?_
  rfl
theorem c_purses (q : WA h w m b l) (v : VR m) : Vc G 0 m_X2_purses [.ref w] h (.int (pursesF m)) := by
  obtain ⟨hs, hs10⟩ := v.pp
  have o := wa_o q; have a1 := wa_pu q
  refine wc_in mt_X2_purses rfl (L := [.ref w, am_un, am_un]) rfl ?_
  refine r_push rfl ?_
  refine r_istore_1 rfl ?_
  refine r_push rfl ?_
  refine r_istore_2 rfl ?_
  refine wp_for (nP m) (fun j => [.ref w, .int (smF (fun p => m (33 + 6 * p)) j), .int (nI j)]) (fun j hj k => ?_) ?_
  · have hj' : j < 6 := by omega
    simp only [smF, nI_succ] at k
    refine r_iload_2 rfl ?_
    refine r_aload_0 rfl ?_
    refine r_getf rfl (by assumption) (by rfl) ?_
    refine r_icgeF rfl (by rw [hs]; exact nI_lt hj (by omega)) ?_
    refine r_iload_1 rfl ?_
    refine r_aload_0 rfl ?_
    refine r_getf rfl (by assumption) (by rfl) ?_
    refine r_iload_2 rfl ?_
    refine r_iald rfl (by assumption) (by rfl) (by first | assumption | omega) (by decide) ?_
    refine r_iadd rfl ?_
    refine r_istore_1 rfl ?_
    refine r_iinc_2 rfl ?_
    refine r_goto rfl ?_
    simp only [cl_in hj'] at *
    exact k
  · refine r_iload_2 rfl ?_
    refine r_aload_0 rfl ?_
    refine r_getf rfl (by assumption) (by rfl) ?_
    refine r_icgeT rfl (by rw [hs]; exact Int32.le_refl _) ?_
    refine r_iload_1 rfl ?_
    refine r_iret rfl ?_
    rfl
theorem c_isBowed (q : WA h w m b l) (v : VR m) (y : BY b m) {p : Nat} (hp : p < nP m) : Vc G 3 m_X2_isBowed [.ref w, .int (nI p)] h (.int (bI (bowF m p))) := by
  obtain ⟨hs, hs10⟩ := v.pp
  have hj' : p < 6 := by omega
  have o := wa_o q; have a1 := wa_hu q; have a2 := wa_ti q; have a3 := wa_ba q
  refine wc_in mt_X2_isBowed rfl (L := [.ref w, .int (nI p)]) rfl ?_
  refine r_aload_0 rfl ?_
  refine r_getf rfl (by assumption) (by rfl) ?_
  refine r_iload_1 rfl ?_
  refine r_zald rfl (by assumption) (by rfl) (by first | assumption | omega) (by decide) ?_
  refine r_ifne rfl (fun c_6 => ?_) (fun c_6 => ?_)
  · refine r_push rfl ?_
    refine r_goto rfl ?_
    refine r_zret rfl (by first | decide | assumption) ?_
    simp only [cl_in hj'] at *
    first | (rw [show bowF m p = true by simp [bowF, *]]; rfl) | (rw [show bowF m p = false by simp [bowF, *]]; rfl)
  · refine r_aload_0 rfl ?_
    refine r_getf rfl (by assumption) (by rfl) ?_
    refine r_iload_1 rfl ?_
    refine r_iald rfl (by assumption) (by rfl) (by first | assumption | omega) (by decide) ?_
    refine r_push rfl ?_
    refine r_iceq rfl (fun c_17 => ?_) (fun c_17 => ?_)
    · refine r_push rfl ?_
      refine r_goto rfl ?_
      refine r_zret rfl (by first | decide | assumption) ?_
      simp only [cl_in hj'] at *
      first | (rw [show bowF m p = true by simp [bowF, *]]; rfl) | (rw [show bowF m p = false by simp [bowF, *]]; rfl)
    · refine r_aload_0 rfl ?_
      refine r_iload_1 rfl ?_
      refine r_invvP_1 rfl (by assumption) rfl rfl (by decide) (c_load q v y _) ?_
      refine r_aload_0 rfl ?_
      refine r_getf rfl (by assumption) (by rfl) ?_
      refine r_iload_1 rfl ?_
      refine r_iald rfl (by assumption) (by rfl) (by first | assumption | omega) (by decide) ?_
      refine r_icle rfl (fun c_31 => ?_) (fun c_31 => ?_)
      · refine r_push rfl ?_
        refine r_zret rfl (by first | decide | assumption) ?_
        simp only [cl_in hj'] at *
        first | (rw [show bowF m p = true by simp [bowF, *]]; rfl) | (rw [show bowF m p = false by simp [bowF, *]]; rfl)
      · refine r_push rfl ?_
        refine r_goto rfl ?_
        refine r_zret rfl (by first | decide | assumption) ?_
        simp only [cl_in hj'] at *
        first | (rw [show bowF m p = true by simp [bowF, *]]; rfl) | (rw [show bowF m p = false by simp [bowF, *]]; rfl)
theorem c_placeOf (q : WA h w m b l) (v : VR m) (y : BY b m) {s : Nat} (hs : s < nS m) : Vc G 0 m_X2_placeOf [.ref w, .int (nI s)] h (.int (if m (72 + 6 * s) = 0 then m (35 + 6 * (m (73 + 6 * s)).toNatClampNeg) else if m (72 + 6 * s) = 1 then m (74 + 6 * s) else -1)) := by
  obtain ⟨hs4, hs10⟩ := v.ss
  obtain ⟨hp4, hp6⟩ := v.pp
  have hj' : s < 10 := by omega
  obtain ⟨y0, y1⟩ := y s hs
  obtain ⟨-, -, -, ⟨k, hk, ek⟩, hb, -⟩ := v.st s hs
  have o := wa_o q; have a1 := wa_st q; have a2 := wa_by q; have a3 := wa_at q
  have fin : m (72 + 6 * s) ≠ 2 → m (72 + 6 * s) ≠ 1 → Wp G 0 mt_X2_placeOf 33 [.ref w, .int (nI s)] [] h (fun R => R = .inl (some (.int (if m (72 + 6 * s) = 0 then m (35 + 6 * (m (73 + 6 * s)).toNatClampNeg) else if m (72 + 6 * s) = 1 then m (74 + 6 * s) else -1)), h)) := by
    intro c7 c21
    have e0 : m (72 + 6 * s) = 0 := by
      rcases (show k = 0 ∨ k = 1 ∨ k = 2 by omega) with rfl | rfl | rfl
      · exact ek
      · exact absurd ek c21
      · exact absurd ek c7
    obtain ⟨z, hz, ez⟩ := hb e0
    have hz6 : z < 6 := by omega
    have eb : cl 10 b s = nI z := by rw [cl_in hj']; exact (y0 e0).trans ez
    have ec : (m (73 + 6 * s)).toNatClampNeg = z := by rw [ez]; exact nI_clamp (by omega)
    refine r_aload_0 rfl ?_
    refine r_getf rfl (by assumption) (by rfl) ?_
    refine r_aload_0 rfl ?_
    refine r_getf rfl (by assumption) (by rfl) ?_
    refine r_iload_1 rfl ?_
    refine r_iald rfl (by assumption) (by rfl) (by first | assumption | omega) (by decide) ?_
    refine r_iald rfl (by assumption) eb hz6 (by decide) ?_
    refine r_iret rfl ?_
    rw [if_pos e0, ec, cl_in hz6]
  refine wc_in mt_X2_placeOf rfl (L := [.ref w, .int (nI s)]) rfl ?_
  refine r_aload_0 rfl ?_
  refine r_getf rfl (by assumption) (by rfl) ?_
  refine r_iload_1 rfl ?_
  refine r_iald rfl (by assumption) (by rfl) (by first | assumption | omega) (by decide) ?_
  refine r_push rfl ?_
  refine r_icne rfl (fun c_7 => ?_) (fun c_7 => ?_)
  · refine r_aload_0 rfl ?_
    refine r_getf rfl (by assumption) (by rfl) ?_
    refine r_iload_1 rfl ?_
    refine r_iald rfl (by assumption) (by rfl) (by first | assumption | omega) (by decide) ?_
    refine r_push rfl ?_
    refine r_icne rfl (fun c_21 => ?_) (fun c_21 => ?_)
    · simp only [cl_in hj'] at *
      exact fin c_7 c_21
    · refine r_aload_0 rfl ?_
      refine r_getf rfl (by assumption) (by rfl) ?_
      refine r_iload_1 rfl ?_
      refine r_iald rfl (by assumption) (by rfl) (by first | assumption | omega) (by decide) ?_
      refine r_goto rfl ?_
      refine r_iret rfl ?_
      simp only [cl_in hj'] at *
      first | rw [if_neg (by rw [c_21]; decide), if_pos c_21, y1 c_21] | rw [if_neg (by rw [c_7]; decide), if_neg (by rw [c_7]; decide)]
  · refine r_push rfl ?_
    refine r_goto rfl ?_
    refine r_iret rfl ?_
    simp only [cl_in hj'] at *
    first | rw [if_neg (by rw [c_21]; decide), if_pos c_21, y1 c_21] | rw [if_neg (by rw [c_7]; decide), if_neg (by rw [c_7]; decide)]
end
