/-! WHAT IS AHEAD: gravel, ahead, trial on both sides -/
set_option maxRecDepth 100000
def qGravel (m : Nat → Int32) (n : Int32) : Nat × Int32 := if inF n 0 200 = false then (1, 0) else (0, upwF (hourN false m n.toNatClampNeg).2 - upwF m)
def aheV (m : Nat → Int32) (p : Nat) (w : Int32) : Int32 := if w = 0 then m (33 + 6 * p) else if w = 1 then m (35 + 6 * p) else if w = 2 then m (37 + 6 * p) else loadF m (nI p)
def qAhead (m : Nat → Int32) (p n w : Int32) : Nat × Int32 := if inF p 0 (m 3 - 1) = false then (1, 0) else if inF n 0 200 = false then (2, 0) else if inF w 0 3 = false then (3, 0) else (0, aheV (hourN false m n.toNatClampNeg).2 p.toNatClampNeg w)
def qTrial (m : Nat → Int32) (n hu : Int32) : Nat × Int32 := if inF n 0 100 = false then (1, 0) else (0, if hu = 0 then pursesF (hourN true m n.toNatClampNeg).2 else hurtF (hourN true m n.toNatClampNeg).2)
def k3 (a c d : Nat) : Nat → Nat := fun k => if k = 1 then a else if k = 2 then c else d
/-- what a look ahead writes in the model -/
def TQ (y : Nat) : Nat → Prop := fun a => a = y ∨ a = y + 1 ∨ a = y + 3 ∨ a = y + 6
def ASD (h : am_H) (y : Nat) : Prop := ∃ a, h.1 (y + 3) = some (.inl (0, 369, .inl a))
/-- the model after a look ahead -/
def YL (G : am_G) (bs y : Nat) (h0 : am_H) (g0 m : Nat → Int32) (h : am_H) : Prop := ∃ g, MZ G bs h y g m ∧ ASD h y ∧ gK g0 g ∧ HF (TQ y) 0 0 h0 h
section
variable {G : am_G} {bs : Nat} {S : Nat → Prop} {h h0 : am_H} {x y : Nat} {hi : Bool} {m b g mt bt : Nat → Int32} {l lt : Value}
theorem PP_TQ {a : Nat} (z : PP y a) : TQ y a := z.elim Or.inl (fun z => z.elim (fun z => Or.inr (Or.inr (Or.inr z))) (fun z => Or.inr (Or.inl z)))
theorem YL.thr (q : MZ G bs h y g m) (as : ASD h y) (v : Int32) : YL G bs y h (upd g 0 v) m (mh h y (upd g 0 v)) := by
  obtain ⟨a, as⟩ := as
  have z := q.sg (g' := upd g 0 v)
  exact ⟨_, z.1, ⟨a, am_set_k as (by omega)⟩, gK.refl, z.2.mono (fun a w => PP_TQ (AP_PP w)) (Nat.le_refl _) (Nat.le_refl _)⟩
/-- put aside: what is known then -/
def YA (G : am_G) (bs y : Nat) (h0 : am_H) (g0 b m m2 : Nat → Int32) (h : am_H) : Prop := ∃ g, MZ G bs h y g m2 ∧ (∃ a, (∀ k, k < 369 → a k = m k) ∧ h.1 (y + 3) = some (.inl (0, 369, .inl a))) ∧ VR m2 ∧ BY b m2 ∧ LV m2 ∧ KR m m2 ∧ gK g0 g ∧ HF (TQ y) 0 0 h0 h
theorem y_put (q : YL G bs y h0 g m h) (v : VR m) (yb : BY b m) (lv : LV m) : En G 0 m_X6_putsAside [.ref y] h (fun h' => YA G bs y h0 g b m m h') := by
  obtain ⟨g1, q1, ⟨a, as⟩, k1, f1⟩ := q
  refine wc_mono (fun R hR => ?_) (c_mputsAside q1.1 as)
  refine ⟨_, hR, g1, ?_, ⟨_, fun k hk => ?_, am_set_at⟩, v, yb, lv, KR.refl, k1, HF.setP f1 as (Or.inr (Or.inr (Or.inl rfl)))⟩
  · obtain ⟨⟨q1, q2⟩, q3, q4, q5, ⟨tp, q6⟩, ⟨fa0, q7⟩⟩ := q1
    have f : HF (fun b => b = y + 3) 0 0 h (am_set h (y + 3) (.inl (0, 369, .inl (cpN m a 0 0 369)))) := HF.set q3 as
    exact ⟨⟨am_set_k q1 (by omega), am_set_k q2 (by omega)⟩, f.w, q4.keep f (fun a z => by omega), q5, ⟨tp, am_set_k q6 (by omega)⟩, ⟨fa0, am_set_k q7 (by omega)⟩⟩
  · rw [cpN_at, if_pos (by omega)]
    congr 1
    omega
theorem y_pass (q : YA G bs y h0 g b m mt h) {n : Nat} (hn : n ≤ 200) (dr : Bool) : Ev G 34 m_X6_passes [.ref y, .int (nI n), .int (bI dr)] h (fun v h' => v = .int (hourN dr mt n).1 ∧ YA G bs y h0 g b m (hourN dr mt n).2 h') := by
  obtain ⟨g1, q1, ⟨a, ha, as⟩, v, yb, lv, kr, k1, f1⟩ := q
  have ml : ML G bs y h g1 b mt h := ⟨g1, q1, v, yb, lv, gK.refl, HF.refl q1.2.1⟩
  obtain ⟨v2, y2, kr2⟩ := hourN_ok (dr := dr) v yb n
  refine ev_mono (c_mpasses ml hn dr) ?_
  rintro r h' ⟨rfl, g2, q2, -, -, lv2, k2, f2⟩
  exact ⟨rfl, g2, q2, ⟨a, ha, f2.k as (by unfold PP; omega)⟩, v2, y2, lv2, kr.trans kr2, k1.trans k2, HF.trans f1 (f2.mono (fun _ z => PP_TQ z) (Nat.le_refl _) (Nat.le_refl _))⟩
theorem y_back (q : YA G bs y h0 g b m mt h) : En G 0 m_X6_comesBack [.ref y] h (fun h' => YL G bs y h0 g m h') := by
  obtain ⟨g1, q1, ⟨a, ha, as⟩, v, yb, lv, kr, k1, f1⟩ := q
  have e : cpN a mt 0 0 369 = m := by
    funext k
    rw [cpN_at]
    by_cases c : k < 369
    · rw [if_pos (by omega), show 0 + (k - 0) = k by omega]; exact ha k c
    · rw [if_neg (by omega)]; exact kr.1.2.2 k (by omega)
  have c := c_mcomesBack (G := G) q1.1 as
  rw [e] at c
  refine wc_mono (fun R hR => ?_) c
  have z := q1.sm (m' := m)
  exact ⟨_, hR, g1, z.1, ⟨a, am_set_k as (by omega)⟩, k1, HF.trans f1 (z.2.mono (fun _ w => PP_TQ w) (Nat.le_refl _) (Nat.le_refl _))⟩
theorem c_xGravel (q : HS G bs x (x + 1) S hi h m b l) (g1 : GEO bs x (x + 1) S) (ge : GEO bs x (x + 49) S) (qt : WA h (x + 49) mt bt lt) (n : Int32) : Et G 46 m_X1_gravel [.ref x, .int n] h (fun v h' => (qGravel m n).1 = 0 ∧ v = .int (qGravel m n).2 ∧ ∃ mx, HL G bs x (x + 49) S hi h b l mx h') (QX h (qGravel m n) (k1 18)) := by
  have o := q.2.2.2.2.2.2.1
  refine wc_in mt_X1_gravel rfl (L := [.ref x, .int n, am_un]) rfl ?_
  refine r_iload_1 rfl ?_
  refine r_push rfl ?_
  refine r_push rfl ?_
  refine r_invP_3 rfl rfl (by decide) (c_in _ _ _) ?_
  unfold qGravel
  cases e : inF n 0 200 with
  | false =>
    rw [if_pos rfl]
    refine r_invX rfl rfl rfl rfl (by decide) (c_demandF rfl) ?_
    exact Or.inr ⟨_, _, rfl, by decide, rfl, rfl⟩
  | true =>
    rw [if_neg (by decide)]
    refine r_invO rfl rfl rfl (by decide) (c_demandT (by decide)) ?_
    obtain ⟨k, hk, rfl⟩ := inF_nI (n := 201) (by decide) e
    rw [nI_clamp (show k < 2 ^ 31 by omega)]
    refine r_aload_0 rfl ?_
    refine r_iload_1 rfl ?_
    refine r_invvE rfl rfl o rfl rfl (by decide) (c_worldAt q g1 ge qt (n := k) (by omega)) ?_
    rintro r h2 ⟨rfl, K⟩
    have KK := K
    obtain ⟨⟨w2, v2, y2, -, -, -, o2, -⟩, f2⟩ := K
    have w1 := q.1.keep f2 (fun a z => by unfold HP InW at z; omega)
    have ow := wa_o w2; have ow1 := wa_o w1
    refine r_astore_2 rfl ?_
    refine r_aload_2 rfl ?_
    refine r_aload_2 rfl ?_
    refine r_invvP_0 rfl (by assumption) rfl rfl (by decide) (c_unpaid w2 v2) ?_
    refine r_invvP_1 rfl (by assumption) rfl rfl (by decide) (c_weightOf w2 v2 _) ?_
    refine r_aload_0 rfl ?_
    refine r_getf rfl (by assumption) (by rfl) ?_
    refine r_aload_0 rfl ?_
    refine r_getf rfl (by assumption) (by rfl) ?_
    refine r_invvP_0 rfl (by assumption) rfl rfl (by decide) (c_unpaid w1 q.2.1) ?_
    refine r_invvP_1 rfl (by assumption) rfl rfl (by decide) (c_weightOf w1 q.2.1 _) ?_
    refine r_isub rfl ?_
    refine r_iret rfl ?_
    refine Or.inl ⟨_, _, rfl, rfl, ?_, _, KK⟩
    rw [upw_eq v2, upw_eq q.2.1]
theorem c_yGravel (q : MZ G bs h y g m) (as : ASD h y) (v : VR m) (yb : BY b m) (lv : LV m) (n : Int32) : Ev G 35 m_X6_gravel [.ref y, .int n] h (fun r h' => r = .int (qGravel m n).2 ∧ YL G bs y h (upd g 0 (nI (qGravel m n).1)) m h') := by
  have o := q.1.1
  have z1 := YL.thr q as (nI 1); have z3 := YL.thr q as (nI 0)
  refine wc_in mt_X6_gravel rfl (L := [.ref y, .int n, am_un, am_un, am_un]) rfl ?_
  unfold qGravel
  cases e1 : inF n 0 200 with
  | false =>
    rw [if_pos rfl]
    refine r_aload_0 rfl ?_
    refine r_iload_1 rfl ?_
    refine r_push rfl ?_
    refine r_push rfl ?_
    refine r_invP_3 rfl rfl (by decide) (c_isIn _ _ _) ?_
    refine r_ifneF rfl (by rw [e1]; rfl) ?_
    refine r_push rfl ?_
    refine r_goto rfl ?_
    refine r_puti rfl (o) rfl ?_
    rw [mo_0]
    refine r_aload_0 rfl ?_
    refine r_getf rfl (am_set_at) (by rfl) ?_
    refine r_ifleF rfl (by rw [upd_eq]; decide) ?_
    refine r_push rfl ?_
    refine r_iret rfl ?_
    exact ⟨_, _, rfl, rfl, z1⟩
  | true =>
    rw [if_neg (by decide)]
    obtain ⟨k, hk, rfl⟩ := inF_nI (n := 201) (by decide) e1
    rw [nI_clamp (show k < 2 ^ 31 by omega)]
    refine r_aload_0 rfl ?_
    refine r_iload_1 rfl ?_
    refine r_push rfl ?_
    refine r_push rfl ?_
    refine r_invP_3 rfl rfl (by decide) (c_isIn _ _ _) ?_
    refine r_ifneT rfl (by rw [e1]; decide) ?_
    refine r_push rfl ?_
    refine r_puti rfl (o) rfl ?_
    rw [mo_0]
    refine r_aload_0 rfl ?_
    refine r_getf rfl (am_set_at) (by rfl) ?_
    refine r_ifleT rfl (by rw [upd_eq]; decide) ?_
    refine r_aload_0 rfl ?_
    refine r_invvF rfl rfl am_set_at rfl rfl (by decide) (y_put z3 v yb lv) ?_
    rintro h2 q2
    have Q2 := q2
    obtain ⟨g2, q2, -⟩ := q2
    refine r_aload_0 rfl ?_
    refine r_invvP_0 rfl q2.1.1 rfl rfl (by decide) (c_munpaid q2.1 v) ?_
    refine r_istore_2 rfl ?_
    refine r_aload_0 rfl ?_
    refine r_iload_1 rfl ?_
    refine r_push rfl ?_
    refine r_invvE rfl rfl q2.1.1 rfl rfl (by decide) (y_pass Q2 (n := k) (by omega) false) ?_
    rintro r h3 ⟨rfl, q3⟩
    have Q3 := q3
    obtain ⟨g3, q3, -, v3, -⟩ := q3
    refine r_istore_3 rfl ?_
    refine r_aload_0 rfl ?_
    refine r_invvP_0 rfl q3.1.1 rfl rfl (by decide) (c_munpaid q3.1 v3) ?_
    refine r_iload_2 rfl ?_
    refine r_isub rfl ?_
    refine r_istore_4 rfl ?_
    refine r_aload_0 rfl ?_
    refine r_invvF rfl rfl q3.1.1 rfl rfl (by decide) (y_back Q3) ?_
    rintro h4 q4
    refine r_iload_4 rfl ?_
    refine r_iret rfl ?_
    exact ⟨_, _, rfl, rfl, q4⟩
end
