/-! WHAT IS ASKED: heaviest, heap, pairs, log, led on both sides -/
set_option maxRecDepth 100000
def hvN (m : Nat → Int32) : Nat → Option Nat
  | 0 => none
  | k + 1 => match hvN m k with
    | none => some k
    | some c => if loadF m (nI c) < loadF m (nI k) then some k else some c
def oneV : Option Nat → Int32
  | none => -1
  | some k => nI k
theorem hvN_lt {m : Nat → Int32} : ∀ k c, hvN m k = some c → c < k
  | 0, c, e => by cases e
  | k + 1, c, e => by
    rw [hvN] at e
    cases hs : hvN m k with
    | none => rw [hs] at e; cases e; omega
    | some d =>
      rw [hs] at e
      have := hvN_lt k d hs
      simp only at e
      split at e <;> cases e <;> omega
/-- the heaviest heap of the first so many places -/
def heN (m : Nat → Int32) : Nat → Option (Nat × Int32)
  | 0 => none
  | k + 1 => if (match heN m k with | none => (0 : Int32) | some (_, w) => w) < weightF m (laidF m (nI k)) then some (k, weightF m (laidF m (nI k))) else heN m k
def heW : Option (Nat × Int32) → Int32
  | none => 0
  | some (_, w) => w
def heP : Option (Nat × Int32) → Int32
  | none => -1
  | some (k, _) => nI k
theorem heN_s (m : Nat → Int32) (k : Nat) : heN m (k + 1) = if heW (heN m k) < weightF m (laidF m (nI k)) then some (k, weightF m (laidF m (nI k))) else heN m k := by
  rw [heN]
  cases heN m k <;> rfl
def prB (m : Nat → Int32) (a : Nat) (n : Int32) : Nat → Int32
  | 0 => n
  | j + 1 => prB m a n j + (if loadF m (nI a) = loadF m (nI (a + 1 + j)) then 1 else 0)
def prA (m : Nat → Int32) : Nat → Int32
  | 0 => 0
  | a + 1 => prB m a (prA m a) (nP m - (a + 1))
def qLog (m : Nat → Int32) (ago w : Int32) : Nat × Int32 := if inF w 0 3 = false then (1, 0) else (0, if inF ago 0 (m 7 - 1) = true then m (129 + 4 * ago.toNatClampNeg + w.toNatClampNeg) else -1)
/-- rows of the log of a stone: from so many of the latest on, how many there are, the hour of the latest -/
def ldN (m : Nat → Int32) (z : Int32) (n : Nat) : Nat → Int32 × Int32
  | 0 => (0, -1)
  | k + 1 => if m (129 + 4 * (n - 1 - k) + 1) = z then ((ldN m z n k).1 + 1, m (129 + 4 * (n - 1 - k))) else ldN m z n k
def qLed (m : Nat → Int32) (z : Int32) (hr : Int32) : Nat × Int32 := if inF z 0 (m 4 - 1) = false then (1, 0) else (0, if hr = 0 then (ldN m z (nL m) (nL m)).1 else (ldN m z (nL m) (nL m)).2)
section
variable {G : am_G} {h : am_H} {x y : Nat} {hi : Bool} {m b g : Nat → Int32} {l : Value}
theorem c_xHeaviest (o : h.1 x = some (.inr (0, xobj x hi))) (q : WA h (x + 1) m b l) (v : VR m) (yb : BY b m) : Vc G 4 m_X1_heaviest [.ref x] h (.int (oneV (hvN m (nP m)))) := by
  have o1 := wa_o q
  have hP := v.pp
  refine wc_in mt_X1_heaviest rfl (L := [.ref x, am_un, am_un]) rfl ?_
  refine r_push rfl ?_
  refine r_istore_1 rfl ?_
  refine r_push rfl ?_
  refine r_istore_2 rfl ?_
  refine wp_for (nP m) (fun k => [.ref x, .int (oneV (hvN m k)), .int (nI k)]) (fun k hk kont => ?_) ?_
  · rw [hvN] at kont
    refine r_iload_2 rfl ?_
    refine r_aload_0 rfl ?_
    refine r_getf rfl o rfl ?_
    refine r_getf rfl o1 rfl ?_
    rw [hP.1]
    refine r_icgeF rfl (nI_lt hk (by omega)) ?_
    refine r_iload_1 rfl ?_
    refine r_push rfl ?_
    cases hs : hvN m k with
    | none =>
      rw [hs] at kont
      refine r_iceqT rfl rfl ?_
      refine r_iload_2 rfl ?_
      refine r_istore_1 rfl ?_
      refine r_iinc_2 rfl ?_
      refine r_goto rfl ?_
      rw [nI_1]
      exact kont
    | some c =>
      have hc := hvN_lt k c hs
      rw [hs] at kont
      refine r_iceqF rfl (nI_neg1 (a := c) (by omega)) ?_
      refine r_aload_0 rfl ?_
      refine r_getf rfl o rfl ?_
      refine r_iload_2 rfl ?_
      refine r_invvP_1 rfl o1 rfl rfl (by decide) (c_load q v yb _) ?_
      refine r_aload_0 rfl ?_
      refine r_getf rfl o rfl ?_
      refine r_iload_1 rfl ?_
      refine r_invvP_1 rfl o1 rfl rfl (by decide) (c_load q v yb _) ?_
      refine r_icle rfl (fun z => ?_) (fun z => ?_)
      · have z1 : ¬ loadF m (nI c) < loadF m (nI k) := Int32.not_lt.mpr z
        simp only [if_neg z1] at kont
        refine r_iinc_2 rfl ?_
        refine r_goto rfl ?_
        rw [nI_1]
        exact kont
      · simp only [oneV] at z
        simp only [if_pos z] at kont
        refine r_iload_2 rfl ?_
        refine r_istore_1 rfl ?_
        refine r_iinc_2 rfl ?_
        refine r_goto rfl ?_
        rw [nI_1]
        exact kont
  · refine r_iload_2 rfl ?_
    refine r_aload_0 rfl ?_
    refine r_getf rfl (by assumption) (by rfl) ?_
    refine r_getf rfl (by assumption) (by rfl) ?_
    refine r_icgeT rfl (by rw [hP.1]; exact Int32.le_refl _) ?_
    refine r_iload_1 rfl ?_
    refine r_iret rfl ?_
    rfl
theorem c_yHeaviest (q : MM h y g m) (v : VR m) : Yc G 4 m_X6_heaviest [.ref y] h y g (0, oneV (hvN m (nP m))) := by
  have hP := v.pp
  have m3 := q.thr (nI 0)
  have o := q.1; have o3 := m3.1; have r3 := m3.2
  refine wc_in mt_X6_heaviest rfl (L := [.ref y, am_un, am_un]) rfl ?_
  refine r_aload_0 rfl ?_
  refine r_push rfl ?_
  refine r_puti rfl o rfl ?_
  rw [mo_0]
  refine r_push rfl ?_
  refine r_istore_1 rfl ?_
  refine r_push rfl ?_
  refine r_istore_2 rfl ?_
  refine wp_for (nP m) (fun k => [.ref y, .int (oneV (hvN m k)), .int (nI k)]) (fun k hk kont => ?_) ?_
  · rw [hvN] at kont
    refine r_iload_2 rfl ?_
    refine r_aload_0 rfl ?_
    refine r_getf rfl o3 rfl ?_
    refine r_push rfl ?_
    refine r_iald rfl r3 (show (3 : Int32) = nI 3 from rfl) (by decide) (by decide) ?_
    rw [hP.1]
    refine r_icgeF rfl (nI_lt hk (by omega)) ?_
    refine r_iload_1 rfl ?_
    refine r_push rfl ?_
    cases hs : hvN m k with
    | none =>
      rw [hs] at kont
      refine r_iceqT rfl rfl ?_
      refine r_iload_2 rfl ?_
      refine r_istore_1 rfl ?_
      refine r_iinc_2 rfl ?_
      refine r_goto rfl ?_
      rw [nI_1]
      exact kont
    | some c =>
      have hc := hvN_lt k c hs
      rw [hs] at kont
      refine r_iceqF rfl (nI_neg1 (a := c) (by omega)) ?_
      refine r_aload_0 rfl ?_
      refine r_iload_2 rfl ?_
      refine r_invvP_1 rfl o3 rfl rfl (by decide) (c_mload m3 v _) ?_
      refine r_aload_0 rfl ?_
      refine r_iload_1 rfl ?_
      refine r_invvP_1 rfl o3 rfl rfl (by decide) (c_mload m3 v _) ?_
      refine r_icle rfl (fun z => ?_) (fun z => ?_)
      · have z1 : ¬ loadF m (nI c) < loadF m (nI k) := Int32.not_lt.mpr z
        simp only [if_neg z1] at kont
        refine r_iinc_2 rfl ?_
        refine r_goto rfl ?_
        rw [nI_1]
        exact kont
      · simp only [oneV] at z
        simp only [if_pos z] at kont
        refine r_iload_2 rfl ?_
        refine r_istore_1 rfl ?_
        refine r_iinc_2 rfl ?_
        refine r_goto rfl ?_
        rw [nI_1]
        exact kont
  · refine r_iload_2 rfl ?_
    refine r_aload_0 rfl ?_
    refine r_getf rfl (o3) (by rfl) ?_
    refine r_push rfl ?_
    refine r_iald rfl (r3) (show (3 : Int32) = nI 3 from rfl) (by first | assumption | omega) (by first | decide | omega) ?_
    refine r_icgeT rfl (by rw [hP.1]; exact Int32.le_refl _) ?_
    refine r_iload_1 rfl ?_
    refine r_iret rfl ?_
    rfl
theorem c_xHeap (o : h.1 x = some (.inr (0, xobj x hi))) (q : WA h (x + 1) m b l) (v : VR m) (yb : BY b m) : Vc G 4 m_X1_heap [.ref x] h (.int (heP (heN m 12))) := by
  have o1 := wa_o q
  refine wc_in mt_X1_heap rfl (L := [.ref x, am_un, am_un, am_un, am_un]) rfl ?_
  refine r_push rfl ?_
  refine r_istore_1 rfl ?_
  refine r_push rfl ?_
  refine r_istore_2 rfl ?_
  refine r_push rfl ?_
  refine r_istore_3 rfl ?_
  refine wp_forH 12 (fun k L h' => h' = h ∧ ∃ x5, L = [.ref x, .int (heP (heN m k)), .int (heW (heN m k)), .int (nI k), x5]) (fun k L h' hk hI kont => ?_) (fun L h' hI => ?_) _ _ ⟨rfl, am_un, rfl⟩
  · obtain ⟨rfl, x5, rfl⟩ := hI
    rw [heN_s] at kont
    refine r_iload_3 rfl ?_
    refine r_push rfl ?_
    refine r_icgeF rfl (nI_lt hk (by decide)) ?_
    refine r_aload_0 rfl ?_
    refine r_getf rfl (by assumption) (by rfl) ?_
    refine r_aload_0 rfl ?_
    refine r_getf rfl (by assumption) (by rfl) ?_
    refine r_iload_3 rfl ?_
    refine r_invvP_1 rfl (by assumption) rfl rfl (by decide) (c_laidAt q v yb _) ?_
    refine r_invvP_1 rfl (by assumption) rfl rfl (by decide) (c_weightOf q v _) ?_
    refine r_istore_4 rfl ?_
    refine r_iload_4 rfl ?_
    refine r_iload_2 rfl ?_
    refine r_icgt rfl (fun c_32 => ?_) (fun c_32 => ?_)
    · refine r_iload_3 rfl ?_
      refine r_istore_1 rfl ?_
      refine r_iload_4 rfl ?_
      refine r_istore_2 rfl ?_
      refine r_iinc_3 rfl ?_
      refine r_goto rfl ?_
      rw [nI_1]
      first | (rw [if_pos c_32] at kont; exact kont _ _ ⟨rfl, _, rfl⟩) | (rw [if_neg (Int32.not_lt.mpr c_32)] at kont; exact kont _ _ ⟨rfl, _, rfl⟩)
    · refine r_goto rfl ?_
      refine r_iinc_3 rfl ?_
      refine r_goto rfl ?_
      rw [nI_1]
      first | (rw [if_pos c_32] at kont; exact kont _ _ ⟨rfl, _, rfl⟩) | (rw [if_neg (Int32.not_lt.mpr c_32)] at kont; exact kont _ _ ⟨rfl, _, rfl⟩)
  · obtain ⟨rfl, x5, rfl⟩ := hI
    refine r_iload_3 rfl ?_
    refine r_push rfl ?_
    refine r_icgeT rfl (by decide) ?_
    refine r_iload_1 rfl ?_
    refine r_iret rfl ?_
    rfl
theorem c_yHeap (q : MM h y g m) (v : VR m) : Yc G 4 m_X6_heap [.ref y] h y g (0, heP (heN m 12)) := by
  have m3 := q.thr (nI 0)
  have o := q.1; have o3 := m3.1; have r3 := m3.2
  refine wc_in mt_X6_heap rfl (L := [.ref y, am_un, am_un, am_un, am_un]) rfl ?_
  refine r_aload_0 rfl ?_
  refine r_push rfl ?_
  refine r_puti rfl o rfl ?_
  rw [mo_0]
  refine r_push rfl ?_
  refine r_istore_1 rfl ?_
  refine r_push rfl ?_
  refine r_istore_2 rfl ?_
  refine r_push rfl ?_
  refine r_istore_3 rfl ?_
  refine wp_forH 12 (fun k L h' => h' = mh h y (upd g 0 (nI 0)) ∧ ∃ x5, L = [.ref y, .int (heP (heN m k)), .int (heW (heN m k)), .int (nI k), x5]) (fun k L h' hk hI kont => ?_) (fun L h' hI => ?_) _ _ ⟨rfl, am_un, rfl⟩
  · obtain ⟨rfl, x5, rfl⟩ := hI
    rw [heN_s] at kont
    refine r_iload_3 rfl ?_
    refine r_push rfl ?_
    refine r_icgeF rfl (nI_lt hk (by decide)) ?_
    refine r_aload_0 rfl ?_
    refine r_aload_0 rfl ?_
    refine r_iload_3 rfl ?_
    refine r_invvP_1 rfl (o3) rfl rfl (by decide) (c_mstonesAt m3 v _) ?_
    refine r_invvP_1 rfl (o3) rfl rfl (by decide) (c_mweightOf m3 v _) ?_
    refine r_istore_4 rfl ?_
    refine r_iload_4 rfl ?_
    refine r_iload_2 rfl ?_
    refine r_icgt rfl (fun c_31 => ?_) (fun c_31 => ?_)
    · refine r_iload_4 rfl ?_
      refine r_istore_2 rfl ?_
      refine r_iload_3 rfl ?_
      refine r_istore_1 rfl ?_
      refine r_iinc_3 rfl ?_
      refine r_goto rfl ?_
      rw [nI_1]
      first | (rw [if_pos c_31] at kont; exact kont _ _ ⟨rfl, _, rfl⟩) | (rw [if_neg (Int32.not_lt.mpr c_31)] at kont; exact kont _ _ ⟨rfl, _, rfl⟩)
    · refine r_goto rfl ?_
      refine r_iinc_3 rfl ?_
      refine r_goto rfl ?_
      rw [nI_1]
      first | (rw [if_pos c_31] at kont; exact kont _ _ ⟨rfl, _, rfl⟩) | (rw [if_neg (Int32.not_lt.mpr c_31)] at kont; exact kont _ _ ⟨rfl, _, rfl⟩)
  · obtain ⟨rfl, x5, rfl⟩ := hI
    refine r_iload_3 rfl ?_
    refine r_push rfl ?_
    refine r_icgeT rfl (by decide) ?_
    refine r_iload_1 rfl ?_
    refine r_iret rfl ?_
    rfl
theorem c_xPairs (o : h.1 x = some (.inr (0, xobj x hi))) (q : WA h (x + 1) m b l) (v : VR m) (yb : BY b m) : Vc G 4 m_X1_pairs [.ref x] h (.int (prA m (nP m))) := by
  have o1 := wa_o q
  have hP := v.pp
  refine wc_in mt_X1_pairs rfl (L := [.ref x, am_un, am_un, am_un]) rfl ?_
  refine r_push rfl ?_
  refine r_istore_1 rfl ?_
  refine r_push rfl ?_
  refine r_istore_2 rfl ?_
  refine wp_forH (nP m) (fun k L h' => h' = h ∧ ∃ x5, L = [.ref x, .int (prA m k), .int (nI k), x5]) (fun k L h' hk hI kont => ?_) (fun L h' hI => ?_) _ _ ⟨rfl, am_un, rfl⟩
  · obtain ⟨rfl, x5, rfl⟩ := hI
    rw [prA] at kont
    refine r_iload_2 rfl ?_
    refine r_aload_0 rfl ?_
    refine r_getf rfl (by assumption) (by rfl) ?_
    refine r_getf rfl (by assumption) (by rfl) ?_
    refine r_icgeF rfl (by rw [hP.1]; exact nI_lt hk (by omega)) ?_
    refine r_iload_2 rfl ?_
    refine r_push rfl ?_
    refine r_iadd rfl ?_
    refine r_istore_3 rfl ?_
    rw [nI_1]
    refine wp_for (nP m - (k + 1)) (fun j => [.ref x, .int (prB m k (prA m k) j), .int (nI k), .int (nI (k + 1 + j))]) (fun j hj k2 => ?_) ?_
    · rw [prB] at k2
      refine r_iload_3 rfl ?_
      refine r_aload_0 rfl ?_
      refine r_getf rfl (by assumption) (by rfl) ?_
      refine r_getf rfl (by assumption) (by rfl) ?_
      refine r_icgeF rfl (by rw [hP.1]; exact nI_lt (by omega) (by omega)) ?_
      refine r_iload_1 rfl ?_
      refine r_aload_0 rfl ?_
      refine r_getf rfl (by assumption) (by rfl) ?_
      refine r_iload_2 rfl ?_
      refine r_invvP_1 rfl (by assumption) rfl rfl (by decide) (c_load q v yb _) ?_
      refine r_aload_0 rfl ?_
      refine r_getf rfl (by assumption) (by rfl) ?_
      refine r_iload_3 rfl ?_
      refine r_invvP_1 rfl (by assumption) rfl rfl (by decide) (c_load q v yb _) ?_
      refine r_icne rfl (fun c_47 => ?_) (fun c_47 => ?_)
      · refine r_push rfl ?_
        refine r_iadd rfl ?_
        refine r_istore_1 rfl ?_
        refine r_iinc_3 rfl ?_
        refine r_goto rfl ?_
        rw [nI_1]
        first | (rw [if_pos c_47] at k2; exact k2) | (rw [if_neg c_47] at k2; exact k2)
      · refine r_push rfl ?_
        refine r_goto rfl ?_
        refine r_iadd rfl ?_
        refine r_istore_1 rfl ?_
        refine r_iinc_3 rfl ?_
        refine r_goto rfl ?_
        rw [nI_1]
        first | (rw [if_pos c_47] at k2; exact k2) | (rw [if_neg c_47] at k2; exact k2)
    · refine r_iload_3 rfl ?_
      refine r_aload_0 rfl ?_
      refine r_getf rfl (by assumption) (by rfl) ?_
      refine r_getf rfl (by assumption) (by rfl) ?_
      refine r_icgeT rfl (by rw [hP.1]; exact nI_le (by omega) (by omega)) ?_
      refine r_iinc_2 rfl ?_
      refine r_goto rfl ?_
      rw [nI_1]
      exact kont _ _ ⟨rfl, _, rfl⟩
  · obtain ⟨rfl, x5, rfl⟩ := hI
    refine r_iload_2 rfl ?_
    refine r_aload_0 rfl ?_
    refine r_getf rfl (by assumption) (by rfl) ?_
    refine r_getf rfl (by assumption) (by rfl) ?_
    refine r_icgeT rfl (by rw [hP.1]; exact Int32.le_refl _) ?_
    refine r_iload_1 rfl ?_
    refine r_iret rfl ?_
    rfl
theorem c_yPairs (q : MM h y g m) (v : VR m) : Yc G 4 m_X6_pairs [.ref y] h y g (0, prA m (nP m)) := by
  have hP := v.pp
  have m3 := q.thr (nI 0)
  have o := q.1; have o3 := m3.1; have r3 := m3.2
  refine wc_in mt_X6_pairs rfl (L := [.ref y, am_un, am_un, am_un]) rfl ?_
  refine r_aload_0 rfl ?_
  refine r_push rfl ?_
  refine r_puti rfl o rfl ?_
  rw [mo_0]
  refine r_push rfl ?_
  refine r_istore_1 rfl ?_
  refine r_push rfl ?_
  refine r_istore_2 rfl ?_
  refine wp_forH (nP m) (fun k L h' => h' = mh h y (upd g 0 (nI 0)) ∧ ∃ x5, L = [.ref y, .int (prA m k), .int (nI k), x5]) (fun k L h' hk hI kont => ?_) (fun L h' hI => ?_) _ _ ⟨rfl, am_un, rfl⟩
  · obtain ⟨rfl, x5, rfl⟩ := hI
    rw [prA] at kont
    refine r_iload_2 rfl ?_
    refine r_aload_0 rfl ?_
    refine r_getf rfl (o3) (by rfl) ?_
    refine r_push rfl ?_
    refine r_iald rfl (r3) (show (3 : Int32) = nI 3 from rfl) (by first | assumption | omega) (by first | decide | omega) ?_
    refine r_icgeF rfl (by rw [hP.1]; exact nI_lt hk (by omega)) ?_
    refine r_iload_2 rfl ?_
    refine r_push rfl ?_
    refine r_iadd rfl ?_
    refine r_istore_3 rfl ?_
    rw [nI_1]
    refine wp_for (nP m - (k + 1)) (fun j => [.ref y, .int (prB m k (prA m k) j), .int (nI k), .int (nI (k + 1 + j))]) (fun j hj k2 => ?_) ?_
    · rw [prB] at k2
      refine r_iload_3 rfl ?_
      refine r_aload_0 rfl ?_
      refine r_getf rfl (o3) (by rfl) ?_
      refine r_push rfl ?_
      refine r_iald rfl (r3) (show (3 : Int32) = nI 3 from rfl) (by first | assumption | omega) (by first | decide | omega) ?_
      refine r_icgeF rfl (by rw [hP.1]; exact nI_lt (by omega) (by omega)) ?_
      refine r_iload_1 rfl ?_
      refine r_aload_0 rfl ?_
      refine r_iload_2 rfl ?_
      refine r_invvP_1 rfl (o3) rfl rfl (by decide) (c_mload m3 v _) ?_
      refine r_aload_0 rfl ?_
      refine r_iload_3 rfl ?_
      refine r_invvP_1 rfl (o3) rfl rfl (by decide) (c_mload m3 v _) ?_
      refine r_icne rfl (fun c_44 => ?_) (fun c_44 => ?_)
      · refine r_push rfl ?_
        refine r_iadd rfl ?_
        refine r_istore_1 rfl ?_
        refine r_iinc_3 rfl ?_
        refine r_goto rfl ?_
        rw [nI_1]
        first | (rw [if_pos c_44] at k2; exact k2) | (rw [if_neg c_44] at k2; exact k2)
      · refine r_push rfl ?_
        refine r_goto rfl ?_
        refine r_iadd rfl ?_
        refine r_istore_1 rfl ?_
        refine r_iinc_3 rfl ?_
        refine r_goto rfl ?_
        rw [nI_1]
        first | (rw [if_pos c_44] at k2; exact k2) | (rw [if_neg c_44] at k2; exact k2)
    · refine r_iload_3 rfl ?_
      refine r_aload_0 rfl ?_
      refine r_getf rfl (o3) (by rfl) ?_
      refine r_push rfl ?_
      refine r_iald rfl (r3) (show (3 : Int32) = nI 3 from rfl) (by first | assumption | omega) (by first | decide | omega) ?_
      refine r_icgeT rfl (by rw [hP.1]; exact nI_le (by omega) (by omega)) ?_
      refine r_iinc_2 rfl ?_
      refine r_goto rfl ?_
      rw [nI_1]
      exact kont _ _ ⟨rfl, _, rfl⟩
  · obtain ⟨rfl, x5, rfl⟩ := hI
    refine r_iload_2 rfl ?_
    refine r_aload_0 rfl ?_
    refine r_getf rfl (o3) (by rfl) ?_
    refine r_push rfl ?_
    refine r_iald rfl (r3) (show (3 : Int32) = nI 3 from rfl) (by first | assumption | omega) (by first | decide | omega) ?_
    refine r_icgeT rfl (by rw [hP.1]; exact Int32.le_refl _) ?_
    refine r_iload_1 rfl ?_
    refine r_iret rfl ?_
    rfl
theorem c_xOfLog (o : h.1 x = some (.inr (0, xobj x hi))) (q : WA h (x + 1) m b l) {a w : Nat} (ha : a < 60) (hw : w < 4) : Vc G 0 m_X1_ofLog [.ref x, .int (nI a), .int (nI w)] h (.int (m (129 + 4 * a + w))) := by
  have o1 := wa_o q; have o2 := wa_lo q
  have e : 4 * a + w < 240 := by omega
  refine wc_in mt_X1_ofLog rfl (L := [.ref x, .int (nI a), .int (nI w)]) rfl ?_
  refine r_aload_0 rfl ?_
  refine r_getf rfl (by assumption) (by rfl) ?_
  refine r_getf rfl (by assumption) (by rfl) ?_
  refine r_push rfl ?_
  refine r_iload_1 rfl ?_
  refine r_imul rfl ?_
  refine r_iload_2 rfl ?_
  refine r_iadd rfl ?_
  refine r_iald rfl (o2) (show (4 : Int32) * nI a + nI w = nI (4 * a + w) by rw [show (4 : Int32) = nI 4 from rfl, nI_mul, nI_add]) (e) (by first | decide | omega) ?_
  refine r_iret rfl ?_
  rw [cl_in e, Nat.add_assoc]
theorem c_yLogged (q : MM h y g m) {a w : Nat} (ha : a < 60) (hw : w < 4) : Vc G 0 m_X6_logged [.ref y, .int (nI a), .int (nI w)] h (.int (m (129 + 4 * a + w))) := by
  have o := q.1; have o1 := q.2
  refine wc_in mt_X6_logged rfl (L := [.ref y, .int (nI a), .int (nI w)]) rfl ?_
  refine r_aload_0 rfl ?_
  refine r_getf rfl (by assumption) (by rfl) ?_
  refine r_push rfl ?_
  refine r_push rfl ?_
  refine r_iload_1 rfl ?_
  refine r_imul rfl ?_
  refine r_iadd rfl ?_
  refine r_iload_2 rfl ?_
  refine r_iadd rfl ?_
  refine r_iald rfl (o1) (show (129 : Int32) + 4 * nI a + nI w = nI (129 + 4 * a + w) by rw [show (4 : Int32) = nI 4 from rfl, nI_mul, show (129 : Int32) = nI 129 from rfl, nI_add, nI_add]) (by first | assumption | omega) (by first | decide | omega) ?_
  refine r_iret rfl ?_
  rfl
theorem c_xLog (o : h.1 x = some (.inr (0, xobj x hi))) (q : WA h (x + 1) m b l) (v : VR m) (a w : Int32) : Qt G 4 m_X1_log [.ref x, .int a, .int w] h (qLog m a w) (k1 21) := by
  have o1 := wa_o q
  refine wc_in mt_X1_log rfl (L := [.ref x, .int a, .int w]) rfl ?_
  refine r_iload_2 rfl ?_
  refine r_push rfl ?_
  unfold qLog
  cases e2 : inF w 0 3 with
  | false =>
    rw [if_pos rfl]
    refine r_invX rfl rfl rfl rfl (by decide) (c_questionF e2) ?_
    exact Or.inr ⟨_, _, rfl, by decide, rfl, rfl⟩
  | true =>
    rw [if_neg (by decide)]
    refine r_invO rfl rfl rfl (by decide) (c_questionT e2) ?_
    obtain ⟨j, hj, rfl⟩ := inF_nI (n := 4) (by decide) e2
    cases e1 : inF a 0 (m 7 - 1) with
    | false =>
      refine r_iload_1 rfl ?_
      refine r_push rfl ?_
      refine r_aload_0 rfl ?_
      refine r_getf rfl (by assumption) (by rfl) ?_
      refine r_getf rfl (by assumption) (by rfl) ?_
      refine r_push rfl ?_
      refine r_isub rfl ?_
      refine r_invP_3 rfl rfl (by decide) (c_in _ _ _) ?_
      refine r_ifeqT rfl (by rw [e1]; rfl) ?_
      refine r_push rfl ?_
      refine r_iret rfl ?_
      exact Or.inl ⟨_, _, rfl, rfl, rfl, rfl⟩
    | true =>
      have e3 := e1
      rw [v.lo.1] at e3
      obtain ⟨k, hk, rfl⟩ := inF_nI (by have := v.lo.2; omega) e3
      have hk6 : k < 60 := by have := v.lo.2; omega
      refine r_iload_1 rfl ?_
      refine r_push rfl ?_
      refine r_aload_0 rfl ?_
      refine r_getf rfl (by assumption) (by rfl) ?_
      refine r_getf rfl (by assumption) (by rfl) ?_
      refine r_push rfl ?_
      refine r_isub rfl ?_
      refine r_invP_3 rfl rfl (by decide) (c_in _ _ _) ?_
      refine r_ifeqF rfl (by rw [e1]; decide) ?_
      refine r_aload_0 rfl ?_
      refine r_iload_1 rfl ?_
      refine r_iload_2 rfl ?_
      refine r_invvP_2 rfl (by assumption) rfl rfl (by decide) (c_xOfLog o q hk6 hj) ?_
      refine r_goto rfl ?_
      refine r_iret rfl ?_
      refine Or.inl ⟨_, _, rfl, rfl, ?_, rfl⟩
      rw [if_pos rfl, nI_clamp (show k < 2 ^ 31 by omega), nI_clamp (show j < 2 ^ 31 by omega)]
theorem c_yLog (q : MM h y g m) (v : VR m) (a w : Int32) : Yc G 4 m_X6_log [.ref y, .int a, .int w] h y g (qLog m a w) := by
  have o := q.1
  have m1 := q.thr (nI 1); have m3 := q.thr (nI 0)
  have o1 := m1.1; have o3 := m3.1; have r3 := m3.2
  refine wc_in mt_X6_log rfl (L := [.ref y, .int a, .int w]) rfl ?_
  unfold qLog
  cases e2 : inF w 0 3 with
  | false =>
    rw [if_pos rfl]
    refine r_aload_0 rfl ?_
    refine r_iload_2 rfl ?_
    refine r_push rfl ?_
    refine r_push rfl ?_
    refine r_invP_3 rfl rfl (by decide) (c_isIn _ _ _) ?_
    refine r_ifneF rfl (by rw [e2]; rfl) ?_
    refine r_push rfl ?_
    refine r_goto rfl ?_
    refine r_puti rfl (o) rfl ?_
    rw [mo_0]
    refine r_aload_0 rfl ?_
    refine r_getf rfl (o1) (by rfl) ?_
    refine r_ifleF rfl (by rw [upd_eq]; decide) ?_
    refine r_push rfl ?_
    refine r_iret rfl ?_
    rfl
  | true =>
    rw [if_neg (by decide)]
    obtain ⟨j, hj, rfl⟩ := inF_nI (n := 4) (by decide) e2
    cases e1 : inF a 0 (m 7 - 1) with
    | false =>
      refine r_aload_0 rfl ?_
      refine r_iload_2 rfl ?_
      refine r_push rfl ?_
      refine r_push rfl ?_
      refine r_invP_3 rfl rfl (by decide) (c_isIn _ _ _) ?_
      refine r_ifneT rfl (by rw [e2]; decide) ?_
      refine r_push rfl ?_
      refine r_puti rfl (o) rfl ?_
      rw [mo_0]
      refine r_aload_0 rfl ?_
      refine r_getf rfl (o3) (by rfl) ?_
      refine r_ifleT rfl (by rw [upd_eq]; decide) ?_
      refine r_iload_1 rfl ?_
      refine r_push rfl ?_
      refine r_aload_0 rfl ?_
      refine r_getf rfl (o3) (by rfl) ?_
      refine r_push rfl ?_
      refine r_iald rfl (r3) (show (7 : Int32) = nI 7 from rfl) (by first | assumption | omega) (by first | decide | omega) ?_
      refine r_push rfl ?_
      refine r_isub rfl ?_
      refine r_invP_3 rfl rfl (by decide) (c_isIn _ _ _) ?_
      refine r_ifeqT rfl (by rw [e1]; rfl) ?_
      refine r_push rfl ?_
      refine r_iret rfl ?_
      rfl
    | true =>
      have e3 := e1
      rw [v.lo.1] at e3
      obtain ⟨k, hk, rfl⟩ := inF_nI (by have := v.lo.2; omega) e3
      have hk6 : k < 60 := by have := v.lo.2; omega
      rw [if_pos rfl, nI_clamp (show k < 2 ^ 31 by omega), nI_clamp (show j < 2 ^ 31 by omega)]
      refine r_aload_0 rfl ?_
      refine r_iload_2 rfl ?_
      refine r_push rfl ?_
      refine r_push rfl ?_
      refine r_invP_3 rfl rfl (by decide) (c_isIn _ _ _) ?_
      refine r_ifneT rfl (by rw [e2]; decide) ?_
      refine r_push rfl ?_
      refine r_puti rfl (o) rfl ?_
      rw [mo_0]
      refine r_aload_0 rfl ?_
      refine r_getf rfl (o3) (by rfl) ?_
      refine r_ifleT rfl (by rw [upd_eq]; decide) ?_
      refine r_iload_1 rfl ?_
      refine r_push rfl ?_
      refine r_aload_0 rfl ?_
      refine r_getf rfl (o3) (by rfl) ?_
      refine r_push rfl ?_
      refine r_iald rfl (r3) (show (7 : Int32) = nI 7 from rfl) (by first | assumption | omega) (by first | decide | omega) ?_
      refine r_push rfl ?_
      refine r_isub rfl ?_
      refine r_invP_3 rfl rfl (by decide) (c_isIn _ _ _) ?_
      refine r_ifeqF rfl (by rw [e1]; decide) ?_
      refine r_aload_0 rfl ?_
      refine r_iload_1 rfl ?_
      refine r_iload_2 rfl ?_
      refine r_invvP_2 rfl (o3) rfl rfl (by decide) (c_yLogged m3 hk6 hj) ?_
      refine r_goto rfl ?_
      refine r_iret rfl ?_
      rfl
end
