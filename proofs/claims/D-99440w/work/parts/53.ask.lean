/-! WHAT IS ASKED: person, stone, place, count on both sides against one spec -/
set_option maxRecDepth 100000
/-- answered, the heap as it was -/
def QV (h : am_H) (r : Nat × Int32) : Value → am_H → Prop := fun v h' => r.1 = 0 ∧ v = .int r.2 ∧ h' = h
/-- thrown: one object more -/
def QX (h : am_H) (r : Nat × Int32) (cls : Nat → Nat) : Nat → am_H → Prop := fun c h' => r.1 ≠ 0 ∧ c = cls r.1 ∧ h' = am_skip h 6
abbrev Qt (G : am_G) (d k : Nat) (As : List Value) (h : am_H) (r : Nat × Int32) (cls : Nat → Nat) : Prop := Et G d k As h (QV h r) (QX h r cls)
def bearF (m : Nat → Int32) (x : Int32) : Int32 := bsF (fun s => (decide (m (72 + 6 * s) = 0) && decide (m (73 + 6 * s) = x)) && !decide (m (69 + 6 * s) = x)) (nS m)
def prsV (m : Nat → Int32) (p k : Nat) : Int32 := if k < 6 then m (33 + 6 * p + k) else if k = 6 then loadF m (nI p) else if k = 7 then wornF m (nI p) else if k = 8 then weightF m (owedF m (nI p)) else if k = 9 then weightF m (dueF m (nI p)) else if k = 10 then bearF m (nI p) else bI (bowF m p)
def qPerson (m : Nat → Int32) (p w : Int32) : Nat × Int32 := if inF p 0 (m 3 - 1) = false then (1, 0) else if inF w 0 11 = false then (2, 0) else (0, prsV m p.toNatClampNeg w.toNatClampNeg)
def stnV (m : Nat → Int32) (s k : Nat) : Int32 := if k < 4 then m (69 + 6 * s + k) else if k = 4 then (if m (72 + 6 * s) = 0 then m (73 + 6 * s) else -1) else if m (72 + 6 * s) = 0 then m (35 + 6 * (m (73 + 6 * s)).toNatClampNeg) else if m (72 + 6 * s) = 1 then m (74 + 6 * s) else -1
def qStone (m : Nat → Int32) (p w : Int32) : Nat × Int32 := if inF p 0 (m 4 - 1) = false then (1, 0) else if inF w 0 5 = false then (2, 0) else (0, stnV m p.toNatClampNeg w.toNatClampNeg)
def plcV (m : Nat → Int32) (p k : Nat) : Int32 := if k = 0 then m (9 + p) else if k = 1 then m (21 + p) else if k = 2 then peopleF m (nI p) else laidF m (nI p)
def qPlace (m : Nat → Int32) (p w : Int32) : Nat × Int32 := if inF p 0 11 = false then (1, 0) else if inF w 0 3 = false then (2, 0) else (0, plcV m p.toNatClampNeg w.toNatClampNeg)
def k2 (a c : Nat) : Nat → Nat := fun k => if k = 1 then a else c
theorem b01 {x : Int32} (q : isB x 2) : x = 0 ∨ x = 1 := by
  obtain ⟨k, hk, rfl⟩ := q
  rcases (show k = 0 ∨ k = 1 by omega) with rfl | rfl
  · exact Or.inl rfl
  · exact Or.inr rfl
section
variable {G : am_G} {h : am_H} {x y : Nat} {hi : Bool} {m b g : Nat → Int32} {l : Value}
theorem c_bearsFor (o : h.1 x = some (.inr (0, xobj x hi))) (q : WA h (x + 1) m b l) (v : VR m) (yb : BY b m) (p : Int32) : Vc G 0 m_X1_bearsForOthers [.ref x, .int p] h (.int (bearF m p)) := by
  obtain ⟨hs, h10⟩ := v.ss
  have o1 := wa_o q; have o2 := wa_st q; have o3 := wa_by q; have o4 := wa_de q
  have ew : bearF m p = bsF (fun s => (decide (m (72 + 6 * s) = 0) && decide (b s = p)) && !decide (m (69 + 6 * s) = p)) (nS m) := bsF_congr fun s hs => by
    by_cases c : m (72 + 6 * s) = 0
    · rw [(yb s hs).1 c]
    · rw [decide_eq_false c]; rfl
  rw [ew]
  refine wc_in mt_X1_bearsForOthers rfl (L := [.ref x, .int p, am_un, am_un]) rfl ?_
  refine r_push rfl ?_
  refine r_istore_2 rfl ?_
  refine r_push rfl ?_
  refine r_istore_3 rfl ?_
  refine wp_for (nS m) (fun j => [.ref x, .int p, .int (bsF (fun s => (decide (m (72 + 6 * s) = 0) && decide (b s = p)) && !decide (m (69 + 6 * s) = p)) j), .int (nI j)]) (fun j hj k => ?_) ?_
  · have hj' : j < 10 := by omega
    simp only [nI_succ] at k
    refine r_iload_3 rfl ?_
    refine r_aload_0 rfl ?_
    refine r_getf rfl (by assumption) (by rfl) ?_
    refine r_getf rfl (by assumption) (by rfl) ?_
    refine r_icgeF rfl (by rw [hs]; exact nI_lt hj (by omega)) ?_
    refine r_iload_2 rfl ?_
    refine r_aload_0 rfl ?_
    refine r_getf rfl (by assumption) (by rfl) ?_
    refine r_getf rfl (by assumption) (by rfl) ?_
    refine r_iload_3 rfl ?_
    refine r_iald rfl (by assumption) (by rfl) (hj') (by first | decide | omega) ?_
    refine r_ifne rfl (fun c_25 => ?_) (fun c_25 => ?_)
    · refine r_push rfl ?_
      refine r_ior rfl ?_
      refine r_istore_2 rfl ?_
      refine r_iinc_3 rfl ?_
      refine r_goto rfl ?_
      simp only [cl_in hj'] at *
      first | (rw [bsF_t (by simp [*])] at k; exact k) | (rw [bsF_f (by simp [*])] at k; exact k)
    · refine r_aload_0 rfl ?_
      refine r_getf rfl (by assumption) (by rfl) ?_
      refine r_getf rfl (by assumption) (by rfl) ?_
      refine r_iload_3 rfl ?_
      refine r_iald rfl (by assumption) (by rfl) (by first | assumption | omega) (by first | decide | omega) ?_
      refine r_iload_1 rfl ?_
      refine r_icne rfl (fun c_38 => ?_) (fun c_38 => ?_)
      · refine r_push rfl ?_
        refine r_ior rfl ?_
        refine r_istore_2 rfl ?_
        refine r_iinc_3 rfl ?_
        refine r_goto rfl ?_
        simp only [cl_in hj'] at *
        first | (rw [bsF_t (by simp [*])] at k; exact k) | (rw [bsF_f (by simp [*])] at k; exact k)
      · refine r_aload_0 rfl ?_
        refine r_getf rfl (by assumption) (by rfl) ?_
        refine r_getf rfl (by assumption) (by rfl) ?_
        refine r_iload_3 rfl ?_
        refine r_iald rfl (by assumption) (by rfl) (by first | assumption | omega) (by first | decide | omega) ?_
        refine r_iload_1 rfl ?_
        refine r_iceq rfl (fun c_51 => ?_) (fun c_51 => ?_)
        · refine r_push rfl ?_
          refine r_ior rfl ?_
          refine r_istore_2 rfl ?_
          refine r_iinc_3 rfl ?_
          refine r_goto rfl ?_
          simp only [cl_in hj'] at *
          first | (rw [bsF_t (by simp [*])] at k; exact k) | (rw [bsF_f (by simp [*])] at k; exact k)
        · refine r_push rfl ?_
          refine r_iload_3 rfl ?_
          refine r_ishl rfl ?_
          refine r_goto rfl ?_
          refine r_ior rfl ?_
          refine r_istore_2 rfl ?_
          refine r_iinc_3 rfl ?_
          refine r_goto rfl ?_
          simp only [cl_in hj'] at *
          first | (rw [bsF_t (by simp [*])] at k; exact k) | (rw [bsF_f (by simp [*])] at k; exact k)
  · refine r_iload_3 rfl ?_
    refine r_aload_0 rfl ?_
    refine r_getf rfl (by assumption) (by rfl) ?_
    refine r_getf rfl (by assumption) (by rfl) ?_
    refine r_icgeT rfl (by rw [hs]; exact Int32.le_refl _) ?_
    refine r_iload_2 rfl ?_
    refine r_iret rfl ?_
    rfl
theorem c_xPerson (o : h.1 x = some (.inr (0, xobj x hi))) (q : WA h (x + 1) m b l) (v : VR m) (yb : BY b m) (p w : Int32) : Qt G 4 m_X1_person [.ref x, .int p, .int w] h (qPerson m p w) (k2 20 21) := by
  have o1 := wa_o q
  refine wc_in mt_X1_person rfl (L := [.ref x, .int p, .int w, am_un]) rfl ?_
  refine r_aload_0 rfl ?_
  refine r_iload_1 rfl ?_
  unfold qPerson
  cases e1 : inF p 0 (m 3 - 1) with
  | false =>
    rw [if_pos rfl]
    refine r_invvX rfl rfl o rfl rfl rfl (by decide) (c_personAtF o q e1) ?_
    exact Or.inr ⟨_, _, rfl, by decide, rfl, rfl⟩
  | true =>
    rw [if_neg (by decide)]
    refine r_invvO rfl rfl o rfl rfl (by decide) (c_personAtT o q e1) ?_
    refine r_iload_2 rfl ?_
    refine r_push rfl ?_
    cases e2 : inF w 0 11 with
    | false =>
      rw [if_pos rfl]
      refine r_invX rfl rfl rfl rfl (by decide) (c_questionF e2) ?_
      exact Or.inr ⟨_, _, rfl, by decide, rfl, rfl⟩
    | true =>
      rw [if_neg (by decide)]
      refine r_invO rfl rfl rfl (by decide) (c_questionT e2) ?_
      rw [v.pp.1] at e1
      obtain ⟨k, hk, rfl⟩ := inF_nI (by have := v.pp.2; omega) e1
      obtain ⟨j, hj, rfl⟩ := inF_nI (n := 12) (by decide) e2
      have hk6 : k < 6 := by have := v.pp.2; omega
      have hb := b01 (v.pe k hk).2.2
      have a1 := wa_pu q; have a2 := wa_ba q; have a3 := wa_at q; have a4 := wa_go q; have a5 := wa_ti q; have a6 := wa_hu q
      rw [nI_clamp (show k < 2 ^ 31 by omega), nI_clamp (show j < 2 ^ 31 by omega)]
      rcases (show j = 0 ∨ j = 1 ∨ j = 2 ∨ j = 3 ∨ j = 4 ∨ j = 5 ∨ j = 6 ∨ j = 7 ∨ j = 8 ∨ j = 9 ∨ j = 10 ∨ j = 11 by omega) with rfl | rfl | rfl | rfl | rfl | rfl | rfl | rfl | rfl | rfl | rfl | rfl
      · refine r_aload_0 rfl ?_
        refine r_getf rfl (by assumption) (by rfl) ?_
        refine r_astore_3 rfl ?_
        refine r_iload_2 rfl ?_
        refine r_sw (nx := 76) rfl rfl ?_
        refine r_aload_3 rfl ?_
        refine r_getf rfl (by assumption) (by rfl) ?_
        refine r_iload_1 rfl ?_
        refine r_iald rfl (a1) (by rfl) (hk6) (by first | decide | omega) ?_
        refine r_iret rfl ?_
        refine Or.inl ⟨_, _, rfl, rfl, ?_, rfl⟩
        rw [cl_in hk6]
        show _ = Value.int (m (33 + 6 * k + 0))
        rw [show 33 + 6 * k + 0 = 33 + 6 * k by omega]
      · refine r_aload_0 rfl ?_
        refine r_getf rfl (by assumption) (by rfl) ?_
        refine r_astore_3 rfl ?_
        refine r_iload_2 rfl ?_
        refine r_sw (nx := 83) rfl rfl ?_
        refine r_aload_3 rfl ?_
        refine r_getf rfl (by assumption) (by rfl) ?_
        refine r_iload_1 rfl ?_
        refine r_iald rfl (a2) (by rfl) (hk6) (by first | decide | omega) ?_
        refine r_iret rfl ?_
        refine Or.inl ⟨_, _, rfl, rfl, ?_, rfl⟩
        rw [cl_in hk6]
        show _ = Value.int (m (33 + 6 * k + 1))
        rw [show 33 + 6 * k + 1 = 34 + 6 * k by omega]
      · refine r_aload_0 rfl ?_
        refine r_getf rfl (by assumption) (by rfl) ?_
        refine r_astore_3 rfl ?_
        refine r_iload_2 rfl ?_
        refine r_sw (nx := 90) rfl rfl ?_
        refine r_aload_3 rfl ?_
        refine r_getf rfl (by assumption) (by rfl) ?_
        refine r_iload_1 rfl ?_
        refine r_iald rfl (a3) (by rfl) (hk6) (by first | decide | omega) ?_
        refine r_iret rfl ?_
        refine Or.inl ⟨_, _, rfl, rfl, ?_, rfl⟩
        rw [cl_in hk6]
        show _ = Value.int (m (33 + 6 * k + 2))
        rw [show 33 + 6 * k + 2 = 35 + 6 * k by omega]
      · refine r_aload_0 rfl ?_
        refine r_getf rfl (by assumption) (by rfl) ?_
        refine r_astore_3 rfl ?_
        refine r_iload_2 rfl ?_
        refine r_sw (nx := 97) rfl rfl ?_
        refine r_aload_3 rfl ?_
        refine r_getf rfl (by assumption) (by rfl) ?_
        refine r_iload_1 rfl ?_
        refine r_iald rfl (a4) (by rfl) (hk6) (by first | decide | omega) ?_
        refine r_iret rfl ?_
        refine Or.inl ⟨_, _, rfl, rfl, ?_, rfl⟩
        rw [cl_in hk6]
        show _ = Value.int (m (33 + 6 * k + 3))
        rw [show 33 + 6 * k + 3 = 36 + 6 * k by omega]
      · refine r_aload_0 rfl ?_
        refine r_getf rfl (by assumption) (by rfl) ?_
        refine r_astore_3 rfl ?_
        refine r_iload_2 rfl ?_
        refine r_sw (nx := 104) rfl rfl ?_
        refine r_aload_3 rfl ?_
        refine r_getf rfl (by assumption) (by rfl) ?_
        refine r_iload_1 rfl ?_
        refine r_iald rfl (a5) (by rfl) (hk6) (by first | decide | omega) ?_
        refine r_iret rfl ?_
        refine Or.inl ⟨_, _, rfl, rfl, ?_, rfl⟩
        rw [cl_in hk6]
        show _ = Value.int (m (33 + 6 * k + 4))
        rw [show 33 + 6 * k + 4 = 37 + 6 * k by omega]
      · refine r_aload_0 rfl ?_
        refine r_getf rfl (by assumption) (by rfl) ?_
        refine r_astore_3 rfl ?_
        refine r_iload_2 rfl ?_
        refine r_sw (nx := 111) rfl rfl ?_
        refine r_aload_3 rfl ?_
        refine r_getf rfl (by assumption) (by rfl) ?_
        refine r_iload_1 rfl ?_
        refine r_zald rfl (a6) (by rfl) (hk6) (by first | decide | omega) ?_
        refine r_ifeq rfl (fun c_117 => ?_) (fun c_117 => ?_)
        · refine r_push rfl ?_
          refine r_iret rfl ?_
          refine Or.inl ⟨_, _, rfl, rfl, ?_, rfl⟩
          rw [cl_in hk6] at c_117
          show _ = Value.int (m (33 + 6 * k + 5))
          rw [show 33 + 6 * k + 5 = 38 + 6 * k by omega]
          first | rw [c_117] | rw [hb.resolve_left c_117]
        · refine r_push rfl ?_
          refine r_goto rfl ?_
          refine r_iret rfl ?_
          refine Or.inl ⟨_, _, rfl, rfl, ?_, rfl⟩
          rw [cl_in hk6] at c_117
          show _ = Value.int (m (33 + 6 * k + 5))
          rw [show 33 + 6 * k + 5 = 38 + 6 * k by omega]
          first | rw [c_117] | rw [hb.resolve_left c_117]
      · refine r_aload_0 rfl ?_
        refine r_getf rfl (by assumption) (by rfl) ?_
        refine r_astore_3 rfl ?_
        refine r_iload_2 rfl ?_
        refine r_sw (nx := 126) rfl rfl ?_
        refine r_aload_3 rfl ?_
        refine r_iload_1 rfl ?_
        refine r_invvP_1 rfl (by assumption) rfl rfl (by decide) (c_load q v yb _) ?_
        refine r_iret rfl ?_
        exact Or.inl ⟨_, _, rfl, rfl, rfl, rfl⟩
      · refine r_aload_0 rfl ?_
        refine r_getf rfl (by assumption) (by rfl) ?_
        refine r_astore_3 rfl ?_
        refine r_iload_2 rfl ?_
        refine r_sw (nx := 132) rfl rfl ?_
        refine r_aload_3 rfl ?_
        refine r_iload_1 rfl ?_
        refine r_invvP_1 rfl (by assumption) rfl rfl (by decide) (c_wornBy q v yb _) ?_
        refine r_iret rfl ?_
        exact Or.inl ⟨_, _, rfl, rfl, rfl, rfl⟩
      · refine r_aload_0 rfl ?_
        refine r_getf rfl (by assumption) (by rfl) ?_
        refine r_astore_3 rfl ?_
        refine r_iload_2 rfl ?_
        refine r_sw (nx := 138) rfl rfl ?_
        refine r_aload_3 rfl ?_
        refine r_aload_3 rfl ?_
        refine r_iload_1 rfl ?_
        refine r_invvP_1 rfl (by assumption) rfl rfl (by decide) (c_owedBy q v _) ?_
        refine r_invvP_1 rfl (by assumption) rfl rfl (by decide) (c_weightOf q v _) ?_
        refine r_iret rfl ?_
        exact Or.inl ⟨_, _, rfl, rfl, rfl, rfl⟩
      · refine r_aload_0 rfl ?_
        refine r_getf rfl (by assumption) (by rfl) ?_
        refine r_astore_3 rfl ?_
        refine r_iload_2 rfl ?_
        refine r_sw (nx := 148) rfl rfl ?_
        refine r_aload_3 rfl ?_
        refine r_aload_3 rfl ?_
        refine r_iload_1 rfl ?_
        refine r_invvP_1 rfl (by assumption) rfl rfl (by decide) (c_dueTo q v _) ?_
        refine r_invvP_1 rfl (by assumption) rfl rfl (by decide) (c_weightOf q v _) ?_
        refine r_iret rfl ?_
        exact Or.inl ⟨_, _, rfl, rfl, rfl, rfl⟩
      · refine r_aload_0 rfl ?_
        refine r_getf rfl (by assumption) (by rfl) ?_
        refine r_astore_3 rfl ?_
        refine r_iload_2 rfl ?_
        refine r_sw (nx := 158) rfl rfl ?_
        refine r_aload_0 rfl ?_
        refine r_iload_1 rfl ?_
        refine r_invvP_1 rfl (by assumption) rfl rfl (by decide) (c_bearsFor o q v yb _) ?_
        refine r_iret rfl ?_
        exact Or.inl ⟨_, _, rfl, rfl, rfl, rfl⟩
      · refine r_aload_0 rfl ?_
        refine r_getf rfl (by assumption) (by rfl) ?_
        refine r_astore_3 rfl ?_
        refine r_iload_2 rfl ?_
        refine r_sw (nx := 164) rfl rfl ?_
        refine r_aload_3 rfl ?_
        refine r_iload_1 rfl ?_
        refine r_invvP_1 rfl (by assumption) rfl rfl (by decide) (c_isBowed q v yb hk) ?_
        refine r_ifeq rfl (fun c_169 => ?_) (fun c_169 => ?_)
        · refine r_push rfl ?_
          refine r_iret rfl ?_
          refine Or.inl ⟨_, _, rfl, rfl, ?_, rfl⟩
          show _ = Value.int (bI (bowF m k))
          first | rw [c_169] | rw [bI_1.mpr (bI_n0.mp c_169)]
        · refine r_push rfl ?_
          refine r_goto rfl ?_
          refine r_iret rfl ?_
          refine Or.inl ⟨_, _, rfl, rfl, ?_, rfl⟩
          show _ = Value.int (bI (bowF m k))
          first | rw [c_169] | rw [bI_1.mpr (bI_n0.mp c_169)]
theorem c_xStone (o : h.1 x = some (.inr (0, xobj x hi))) (q : WA h (x + 1) m b l) (v : VR m) (yb : BY b m) (p w : Int32) : Qt G 4 m_X1_stone [.ref x, .int p, .int w] h (qStone m p w) (k2 20 21) := by
  have o1 := wa_o q
  refine wc_in mt_X1_stone rfl (L := [.ref x, .int p, .int w, am_un]) rfl ?_
  refine r_aload_0 rfl ?_
  refine r_iload_1 rfl ?_
  unfold qStone
  cases e1 : inF p 0 (m 4 - 1) with
  | false =>
    rw [if_pos rfl]
    refine r_invvX rfl rfl o rfl rfl rfl (by decide) (c_stoneAtF o q e1) ?_
    exact Or.inr ⟨_, _, rfl, by decide, rfl, rfl⟩
  | true =>
    rw [if_neg (by decide)]
    refine r_invvO rfl rfl o rfl rfl (by decide) (c_stoneAtT o q e1) ?_
    refine r_iload_2 rfl ?_
    refine r_push rfl ?_
    cases e2 : inF w 0 5 with
    | false =>
      rw [if_pos rfl]
      refine r_invX rfl rfl rfl rfl (by decide) (c_questionF e2) ?_
      exact Or.inr ⟨_, _, rfl, by decide, rfl, rfl⟩
    | true =>
      rw [if_neg (by decide)]
      refine r_invO rfl rfl rfl (by decide) (c_questionT e2) ?_
      rw [v.ss.1] at e1
      obtain ⟨k, hk, rfl⟩ := inF_nI (by have := v.ss.2; omega) e1
      obtain ⟨j, hj, rfl⟩ := inF_nI (n := 6) (by decide) e2
      have hk6 : k < 10 := by have := v.ss.2; omega
      have hb := (yb k hk).1
      have a1 := wa_de q; have a2 := wa_le q; have a3 := wa_we q; have a4 := wa_st q; have a5 := wa_by q
      rw [nI_clamp (show k < 2 ^ 31 by omega), nI_clamp (show j < 2 ^ 31 by omega)]
      rcases (show j = 0 ∨ j = 1 ∨ j = 2 ∨ j = 3 ∨ j = 4 ∨ j = 5 by omega) with rfl | rfl | rfl | rfl | rfl | rfl
      · refine r_aload_0 rfl ?_
        refine r_getf rfl (by assumption) (by rfl) ?_
        refine r_astore_3 rfl ?_
        refine r_iload_2 rfl ?_
        refine r_sw (nx := 52) rfl rfl ?_
        refine r_aload_3 rfl ?_
        refine r_getf rfl (by assumption) (by rfl) ?_
        refine r_iload_1 rfl ?_
        refine r_iald rfl (a1) (by rfl) (hk6) (by first | decide | omega) ?_
        refine r_iret rfl ?_
        refine Or.inl ⟨_, _, rfl, rfl, ?_, rfl⟩
        rw [cl_in hk6]
        show _ = Value.int (m (69 + 6 * k + 0))
        rw [show 69 + 6 * k + 0 = 69 + 6 * k by omega]
      · refine r_aload_0 rfl ?_
        refine r_getf rfl (by assumption) (by rfl) ?_
        refine r_astore_3 rfl ?_
        refine r_iload_2 rfl ?_
        refine r_sw (nx := 59) rfl rfl ?_
        refine r_aload_3 rfl ?_
        refine r_getf rfl (by assumption) (by rfl) ?_
        refine r_iload_1 rfl ?_
        refine r_iald rfl (a2) (by rfl) (hk6) (by first | decide | omega) ?_
        refine r_iret rfl ?_
        refine Or.inl ⟨_, _, rfl, rfl, ?_, rfl⟩
        rw [cl_in hk6]
        show _ = Value.int (m (69 + 6 * k + 1))
        rw [show 69 + 6 * k + 1 = 70 + 6 * k by omega]
      · refine r_aload_0 rfl ?_
        refine r_getf rfl (by assumption) (by rfl) ?_
        refine r_astore_3 rfl ?_
        refine r_iload_2 rfl ?_
        refine r_sw (nx := 66) rfl rfl ?_
        refine r_aload_3 rfl ?_
        refine r_getf rfl (by assumption) (by rfl) ?_
        refine r_iload_1 rfl ?_
        refine r_iald rfl (a3) (by rfl) (hk6) (by first | decide | omega) ?_
        refine r_iret rfl ?_
        refine Or.inl ⟨_, _, rfl, rfl, ?_, rfl⟩
        rw [cl_in hk6]
        show _ = Value.int (m (69 + 6 * k + 2))
        rw [show 69 + 6 * k + 2 = 71 + 6 * k by omega]
      · refine r_aload_0 rfl ?_
        refine r_getf rfl (by assumption) (by rfl) ?_
        refine r_astore_3 rfl ?_
        refine r_iload_2 rfl ?_
        refine r_sw (nx := 73) rfl rfl ?_
        refine r_aload_3 rfl ?_
        refine r_getf rfl (by assumption) (by rfl) ?_
        refine r_iload_1 rfl ?_
        refine r_iald rfl (a4) (by rfl) (hk6) (by first | decide | omega) ?_
        refine r_iret rfl ?_
        refine Or.inl ⟨_, _, rfl, rfl, ?_, rfl⟩
        rw [cl_in hk6]
        show _ = Value.int (m (69 + 6 * k + 3))
        rw [show 69 + 6 * k + 3 = 72 + 6 * k by omega]
      · refine r_aload_0 rfl ?_
        refine r_getf rfl (by assumption) (by rfl) ?_
        refine r_astore_3 rfl ?_
        refine r_iload_2 rfl ?_
        refine r_sw (nx := 80) rfl rfl ?_
        refine r_aload_3 rfl ?_
        refine r_getf rfl (by assumption) (by rfl) ?_
        refine r_iload_1 rfl ?_
        refine r_iald rfl (a4) (by rfl) (hk6) (by first | decide | omega) ?_
        refine r_ifne rfl (fun c_86 => ?_) (fun c_86 => ?_)
        · refine r_push rfl ?_
          refine r_iret rfl ?_
          refine Or.inl ⟨_, _, rfl, rfl, ?_, rfl⟩
          rw [cl_in hk6] at c_86
          show _ = Value.int (if m (72 + 6 * k) = 0 then m (73 + 6 * k) else -1)
          first | (rw [if_pos c_86, cl_in hk6, hb c_86]) | rw [if_neg c_86]
        · refine r_aload_3 rfl ?_
          refine r_getf rfl (by assumption) (by rfl) ?_
          refine r_iload_1 rfl ?_
          refine r_iald rfl (a5) (by rfl) (hk6) (by first | decide | omega) ?_
          refine r_goto rfl ?_
          refine r_iret rfl ?_
          refine Or.inl ⟨_, _, rfl, rfl, ?_, rfl⟩
          rw [cl_in hk6] at c_86
          show _ = Value.int (if m (72 + 6 * k) = 0 then m (73 + 6 * k) else -1)
          first | (rw [if_pos c_86, cl_in hk6, hb c_86]) | rw [if_neg c_86]
      · refine r_aload_0 rfl ?_
        refine r_getf rfl (by assumption) (by rfl) ?_
        refine r_astore_3 rfl ?_
        refine r_iload_2 rfl ?_
        refine r_sw (nx := 100) rfl rfl ?_
        refine r_aload_3 rfl ?_
        refine r_iload_1 rfl ?_
        refine r_invvP_1 rfl (by assumption) rfl rfl (by decide) (c_placeOf q v yb hk) ?_
        refine r_iret rfl ?_
        exact Or.inl ⟨_, _, rfl, rfl, rfl, rfl⟩
theorem c_xPlace (o : h.1 x = some (.inr (0, xobj x hi))) (q : WA h (x + 1) m b l) (v : VR m) (yb : BY b m) (p w : Int32) : Qt G 4 m_X1_place [.ref x, .int p, .int w] h (qPlace m p w) (k2 20 21) := by
  have o1 := wa_o q
  refine wc_in mt_X1_place rfl (L := [.ref x, .int p, .int w]) rfl ?_
  refine r_iload_1 rfl ?_
  unfold qPlace
  cases e1 : inF p 0 11 with
  | false =>
    rw [if_pos rfl]
    refine r_invX rfl rfl rfl rfl (by decide) (c_placeAtF e1) ?_
    exact Or.inr ⟨_, _, rfl, by decide, rfl, rfl⟩
  | true =>
    rw [if_neg (by decide)]
    refine r_invO rfl rfl rfl (by decide) (c_placeAtT e1) ?_
    refine r_iload_2 rfl ?_
    refine r_push rfl ?_
    cases e2 : inF w 0 3 with
    | false =>
      rw [if_pos rfl]
      refine r_invX rfl rfl rfl rfl (by decide) (c_questionF e2) ?_
      exact Or.inr ⟨_, _, rfl, by decide, rfl, rfl⟩
    | true =>
      rw [if_neg (by decide)]
      refine r_invO rfl rfl rfl (by decide) (c_questionT e2) ?_
      obtain ⟨k, hk, rfl⟩ := inF_nI (n := 12) (by decide) e1
      obtain ⟨j, hj, rfl⟩ := inF_nI (n := 4) (by decide) e2
      have hb := b01 (v.pl k hk).2
      have a1 := wa_sl q; have a2 := wa_po q
      rw [nI_clamp (show k < 2 ^ 31 by omega), nI_clamp (show j < 2 ^ 31 by omega)]
      rcases (show j = 0 ∨ j = 1 ∨ j = 2 ∨ j = 3 by omega) with rfl | rfl | rfl | rfl
      · refine r_iload_2 rfl ?_
        refine r_ifneF rfl (rfl) ?_
        refine r_aload_0 rfl ?_
        refine r_getf rfl (by assumption) (by rfl) ?_
        refine r_getf rfl (by assumption) (by rfl) ?_
        refine r_iload_1 rfl ?_
        refine r_iald rfl (a1) (by rfl) (hk) (by first | decide | omega) ?_
        refine r_goto rfl ?_
        refine r_iret rfl ?_
        refine Or.inl ⟨_, _, rfl, rfl, ?_, rfl⟩
        rw [cl_in hk]
        rfl
      · refine r_iload_2 rfl ?_
        refine r_ifneT rfl (by decide) ?_
        refine r_iload_2 rfl ?_
        refine r_push rfl ?_
        refine r_icneF rfl (rfl) ?_
        refine r_aload_0 rfl ?_
        refine r_getf rfl (by assumption) (by rfl) ?_
        refine r_getf rfl (by assumption) (by rfl) ?_
        refine r_iload_1 rfl ?_
        refine r_zald rfl (a2) (by rfl) (hk) (by first | decide | omega) ?_
        refine r_ifeq rfl (fun c_39 => ?_) (fun c_39 => ?_)
        · refine r_push rfl ?_
          refine r_goto rfl ?_
          refine r_iret rfl ?_
          refine Or.inl ⟨_, _, rfl, rfl, ?_, rfl⟩
          rw [cl_in hk] at c_39
          show _ = Value.int (m (21 + k))
          first | rw [c_39] | rw [hb.resolve_left c_39]
        · refine r_push rfl ?_
          refine r_goto rfl ?_
          refine r_iret rfl ?_
          refine Or.inl ⟨_, _, rfl, rfl, ?_, rfl⟩
          rw [cl_in hk] at c_39
          show _ = Value.int (m (21 + k))
          first | rw [c_39] | rw [hb.resolve_left c_39]
      · refine r_iload_2 rfl ?_
        refine r_ifneT rfl (by decide) ?_
        refine r_iload_2 rfl ?_
        refine r_push rfl ?_
        refine r_icneT rfl (by decide) ?_
        refine r_iload_2 rfl ?_
        refine r_push rfl ?_
        refine r_icneF rfl (rfl) ?_
        refine r_aload_0 rfl ?_
        refine r_getf rfl (by assumption) (by rfl) ?_
        refine r_iload_1 rfl ?_
        refine r_invvP_1 rfl (by assumption) rfl rfl (by decide) (c_peopleAt q v _) ?_
        refine r_goto rfl ?_
        refine r_iret rfl ?_
        exact Or.inl ⟨_, _, rfl, rfl, rfl, rfl⟩
      · refine r_iload_2 rfl ?_
        refine r_ifneT rfl (by decide) ?_
        refine r_iload_2 rfl ?_
        refine r_push rfl ?_
        refine r_icneT rfl (by decide) ?_
        refine r_iload_2 rfl ?_
        refine r_push rfl ?_
        refine r_icneT rfl (by decide) ?_
        refine r_aload_0 rfl ?_
        refine r_getf rfl (by assumption) (by rfl) ?_
        refine r_iload_1 rfl ?_
        refine r_invvP_1 rfl (by assumption) rfl rfl (by decide) (c_laidAt q v yb _) ?_
        refine r_iret rfl ?_
        exact Or.inl ⟨_, _, rfl, rfl, rfl, rfl⟩
end
