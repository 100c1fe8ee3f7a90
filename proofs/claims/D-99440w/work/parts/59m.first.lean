/-! WHAT IS AHEAD: first on both sides -/
set_option maxRecDepth 100000
def fiC (m : Nat → Int32) (p : Nat) : Bool := decide (weightF m (owedF m (nI p)) ≤ m (33 + 6 * p))
def fiN (m : Nat → Int32) (p : Nat) : Nat → Option Nat
  | 0 => none
  | j + 1 => match fiN m p j with
    | some c => some c
    | none => if fiC (hourN false m j).2 p = true then some j else none
def qFirst (m : Nat → Int32) (p : Int32) : Nat × Int32 := if inF p 0 (m 3 - 1) = false then (1, 0) else (0, oneV (fiN m p.toNatClampNeg 201))
theorem fiN_go {m : Nat → Int32} {p j c : Nat} (e : fiN m p j = some c) : ∀ n, fiN m p (j + n) = some c
  | 0 => e
  | n + 1 => by
    rw [show j + (n + 1) = (j + n) + 1 by omega, fiN, fiN_go e n]
theorem fiN_to {m : Nat → Int32} {p j c : Nat} (e : fiN m p j = some c) {n : Nat} (h : j ≤ n) : fiN m p n = some c := by
  obtain ⟨k, rfl⟩ := Nat.exists_eq_add_of_le h
  exact fiN_go e k
section
variable {G : am_G} {bs : Nat} {S : Nat → Prop} {h h0 : am_H} {x y : Nat} {hi : Bool} {m b g mt bt : Nat → Int32} {l lt : Value}
theorem c_xFirst (q : HS G bs x (x + 1) S hi h m b l) (g1 : GEO bs x (x + 1) S) (ge : GEO bs x (x + 49) S) (qt : WA h (x + 49) mt bt lt) (p : Int32) : Et G 46 m_X1_first [.ref x, .int p] h (fun v h' => (qFirst m p).1 = 0 ∧ v = .int (qFirst m p).2 ∧ ∃ mx, HL G bs x (x + 49) S hi h b l mx h') (QX h (qFirst m p) (k1 20)) := by
  have o := q.2.2.2.2.2.2.1
  have v := q.2.1
  have ot := wa_o qt
  refine wc_in mt_X1_first rfl (L := [.ref x, .int p, am_un]) rfl ?_
  refine r_aload_0 rfl ?_
  refine r_iload_1 rfl ?_
  unfold qFirst
  cases e1 : inF p 0 (m 3 - 1) with
  | false =>
    rw [if_pos rfl]
    refine r_invvX rfl rfl o rfl rfl rfl (by decide) (c_personAtF o q.1 e1) ?_
    exact Or.inr ⟨_, _, rfl, by decide, rfl, rfl⟩
  | true =>
    rw [if_neg (by decide)]
    refine r_invvO rfl rfl o rfl rfl (by decide) (c_personAtT o q.1 e1) ?_
    rw [v.pp.1] at e1
    obtain ⟨i, hi6, rfl⟩ := inF_nI (by have := v.pp.2; omega) e1
    have hi9 : i < 6 := by have := v.pp.2; omega
    rw [nI_clamp (show i < 2 ^ 31 by omega)]
    refine r_aload_0 rfl ?_
    refine r_getf rfl o rfl ?_
    refine r_aload_0 rfl ?_
    refine r_getf rfl o rfl ?_
    refine r_invvE rfl rfl ot rfl rfl (by decide) (c_like q g1 ge qt (by omega)) ?_
    rintro r h1 ⟨rfl, k1⟩
    refine r_popR rfl ?_
    refine r_push rfl ?_
    refine r_istore_2 rfl ?_
    refine wp_forHK 201 (fun j => [.ref x, .int (nI i), .int (nI j)]) (fun j h' => fiN m i j = none ∧ HL G bs x (x + 49) S hi h b l (hourN false m j).2 h') (fun j h' hj hK kont => ?_) (fun h' hK => ?_) ⟨rfl, k1⟩
    · obtain ⟨en, K⟩ := hK
      have KK := K
      obtain ⟨⟨w2, v2, y2, -, -, -, o2, -⟩, f2⟩ := K
      have ow := wa_o w2; have a1 := wa_pu w2
      have ec : fiN m i (j + 1) = if fiC (hourN false m j).2 i = true then some j else none := by rw [fiN, en]
      have c1 := cl_in (f := fun p => (hourN false m j).2 (33 + 6 * p)) hi9
      by_cases c : weightF (hourN false m j).2 (owedF (hourN false m j).2 (nI i)) ≤ (hourN false m j).2 (33 + 6 * i)
      · have e2 : fiC (hourN false m j).2 i = true := decide_eq_true c
        rw [e2, if_pos rfl] at ec
        have e3 := fiN_to ec (show j + 1 ≤ 201 by omega)
        refine r_iload_2 rfl ?_
        refine r_push rfl ?_
        refine r_icgtF rfl (nI_le (b := 200) (by omega) (by decide)) ?_
        refine r_aload_0 rfl ?_
        refine r_getf rfl (by assumption) (by rfl) ?_
        refine r_getf rfl (by assumption) (by rfl) ?_
        refine r_iload_1 rfl ?_
        refine r_iald rfl (a1) (by rfl) (hi9) (by first | decide | omega) ?_
        refine r_aload_0 rfl ?_
        refine r_getf rfl (by assumption) (by rfl) ?_
        refine r_aload_0 rfl ?_
        refine r_getf rfl (by assumption) (by rfl) ?_
        refine r_iload_1 rfl ?_
        refine r_invvP_1 rfl (by assumption) rfl rfl (by decide) (c_owedBy w2 v2 _) ?_
        refine r_invvP_1 rfl (by assumption) rfl rfl (by decide) (c_weightOf w2 v2 _) ?_
        refine r_icltF rfl (by rw [c1]; exact c) ?_
        refine r_iload_2 rfl ?_
        refine r_iret rfl ?_
        refine Or.inl ⟨_, _, rfl, rfl, ?_, _, KK⟩
        rw [e3]
        rfl
      · have e2 : fiC (hourN false m j).2 i = false := decide_eq_false c
        rw [e2, if_neg (by decide)] at ec
        refine r_iload_2 rfl ?_
        refine r_push rfl ?_
        refine r_icgtF rfl (nI_le (b := 200) (by omega) (by decide)) ?_
        refine r_aload_0 rfl ?_
        refine r_getf rfl (by assumption) (by rfl) ?_
        refine r_getf rfl (by assumption) (by rfl) ?_
        refine r_iload_1 rfl ?_
        refine r_iald rfl (a1) (by rfl) (hi9) (by first | decide | omega) ?_
        refine r_aload_0 rfl ?_
        refine r_getf rfl (by assumption) (by rfl) ?_
        refine r_aload_0 rfl ?_
        refine r_getf rfl (by assumption) (by rfl) ?_
        refine r_iload_1 rfl ?_
        refine r_invvP_1 rfl (by assumption) rfl rfl (by decide) (c_owedBy w2 v2 _) ?_
        refine r_invvP_1 rfl (by assumption) rfl rfl (by decide) (c_weightOf w2 v2 _) ?_
        refine r_icltT rfl (by rw [c1]; exact Int32.not_le.mp c) ?_
        refine r_aload_0 rfl ?_
        refine r_aload_0 rfl ?_
        refine r_getf rfl (by assumption) (by rfl) ?_
        refine r_push rfl ?_
        refine r_invvE rfl rfl (by assumption) rfl rfl (by decide) (c_anHour (dr := false) KK ge) ?_
        rintro r2 h3 ⟨rfl, q3⟩
        refine r_pop rfl ?_
        refine r_iinc_2 rfl ?_
        refine r_goto rfl ?_
        rw [nI_1]
        exact kont _ ⟨ec, q3⟩
    · obtain ⟨en, K⟩ := hK
      refine r_iload_2 rfl ?_
      refine r_push rfl ?_
      refine r_icgtT rfl (by decide) ?_
      refine r_push rfl ?_
      refine r_iret rfl ?_
      refine Or.inl ⟨_, _, rfl, rfl, ?_, _, K⟩
      rw [en]
      rfl
theorem YA.yl (q : YA G bs y h0 g b m m h) : YL G bs y h0 g m h := by
  obtain ⟨g1, q1, ⟨a, ha, as⟩, -, -, -, -, k1, f1⟩ := q
  exact ⟨g1, q1, ⟨a, as⟩, k1, f1⟩
theorem c_yFirst (q : MZ G bs h y g m) (as : ASD h y) (v : VR m) (yb : BY b m) (lv : LV m) (p : Int32) : Ev G 35 m_X6_first [.ref y, .int p] h (fun r h' => r = .int (qFirst m p).2 ∧ YL G bs y h (upd g 0 (nI (qFirst m p).1)) m h') := by
  have o := q.1.1
  have z1 := YL.thr q as (nI 1); have z3 := YL.thr q as (nI 0)
  refine wc_in mt_X6_first rfl (L := [.ref y, .int p, am_un, am_un, am_un]) rfl ?_
  unfold qFirst
  cases e0 : inF p 0 (m 3 - 1) with
  | false =>
    rw [if_pos rfl]
    refine r_aload_0 rfl ?_
    refine r_aload_0 rfl ?_
    refine r_iload_1 rfl ?_
    refine r_invvP_1 rfl (o) rfl rfl (by decide) (c_mIsPerson q.1 p) ?_
    refine r_ifneF rfl (by rw [e0]; rfl) ?_
    refine r_push rfl ?_
    refine r_goto rfl ?_
    refine r_puti rfl (o) rfl ?_
    rw [mo_0]
    refine r_aload_0 rfl ?_
    refine r_getf rfl (am_set_at) (by rfl) ?_
    refine r_ifleF rfl (by rw [upd_eq]; decide) ?_
    refine r_push rfl ?_
    refine r_iret rfl ?_
    exact ⟨_, _, rfl, rfl, z1⟩
  | true =>
    rw [if_neg (by decide)]
    have f0 := e0
    rw [v.pp.1] at f0
    obtain ⟨i, hi6, rfl⟩ := inF_nI (by have := v.pp.2; omega) f0
    have hi9 : i < 6 := by have := v.pp.2; omega
    rw [nI_clamp (show i < 2 ^ 31 by omega)]
    refine r_aload_0 rfl ?_
    refine r_aload_0 rfl ?_
    refine r_iload_1 rfl ?_
    refine r_invvP_1 rfl (o) rfl rfl (by decide) (c_mIsPerson q.1 _) ?_
    refine r_ifneT rfl (by rw [e0]; decide) ?_
    refine r_push rfl ?_
    refine r_puti rfl (o) rfl ?_
    rw [mo_0]
    refine r_aload_0 rfl ?_
    refine r_getf rfl (am_set_at) (by rfl) ?_
    refine r_ifleT rfl (by rw [upd_eq]; decide) ?_
    refine r_aload_0 rfl ?_
    refine r_invvF rfl rfl am_set_at rfl rfl (by decide) (y_put z3 v yb lv) ?_
    rintro h2 q2
    refine r_push rfl ?_
    refine r_istore_2 rfl ?_
    refine r_push rfl ?_
    refine r_istore_3 rfl ?_
    have exit : ∀ (h3 : am_H) (mt : Nat → Int32) (r : Int32) x3 x4, YA G bs y h (upd g 0 (nI 0)) b m mt h3 → r = oneV (fiN m i 201) → Wp G 35 mt_X6_first 81 [.ref y, .int (nI i), .int r, x3, x4] [] h3 (fun R => ∃ r h', R = .inl (some r, h') ∧ r = .int (oneV (fiN m i 201)) ∧ YL G bs y h (upd g 0 (nI 0)) m h') := by
      rintro h3 mt r x3 x4 q3 rfl
      have Q3 := q3
      obtain ⟨g3, q3, -⟩ := q3
      have o3 := q3.1.1
      refine r_aload_0 rfl ?_
      refine r_invvF rfl rfl (by assumption) rfl rfl (by decide) (y_back Q3) ?_
      rintro h4 q4
      refine r_iload_2 rfl ?_
      refine r_iret rfl ?_
      exact ⟨_, _, rfl, rfl, q4⟩
    refine wp_forH 201 (fun j L h' => (∃ x4, L = [.ref y, .int (nI i), .int (oneV (fiN m i j)), .int (nI j), x4]) ∧ YA G bs y h (upd g 0 (nI 0)) b m (hourN false m j).2 h') (fun j L h' hj hI kont => ?_) (fun L h' hI => ?_) _ _ ⟨⟨am_un, rfl⟩, q2⟩
    · obtain ⟨⟨x4, rfl⟩, q3⟩ := hI
      have Q3 := q3
      obtain ⟨g3, q3, -, v3, -⟩ := q3
      have o3 := q3.1.1
      refine r_iload_3 rfl ?_
      refine r_push rfl ?_
      refine r_icgtF rfl (nI_le (b := 200) (by omega) (by decide)) ?_
      refine r_iload_2 rfl ?_
      refine r_push rfl ?_
      cases en : fiN m i j with
      | some c =>
        have e3 := fiN_to en (show j ≤ 201 by omega)
        have hc : c < 2 ^ 31 := by
          have lt : ∀ j c, fiN m i j = some c → c < j := by
            intro j
            induction j with
            | zero => intro c e; cases e
            | succ n ih =>
              intro c e
              rw [fiN] at e
              cases ez : fiN m i n with
              | some d => rw [ez] at e; have e9 : d = c := Option.some.inj e; have := ih d ez; omega
              | none =>
                rw [ez] at e
                simp only at e
                split at e
                · cases e; omega
                · cases e
          have := lt j c en
          omega
        refine r_icneT rfl (nI_neg1 hc) ?_
        exact exit _ _ _ _ _ Q3 (by rw [e3])
      | none =>
        refine r_icneF rfl rfl ?_
        have ec : fiN m i (j + 1) = if fiC (hourN false m j).2 i = true then some j else none := by rw [fiN, en]
        have go : ∀ (r : Int32), r = oneV (fiN m i (j + 1)) → Wp G 35 mt_X6_first 67 [.ref y, .int (nI i), .int r, .int (nI j), x4] [] h' (fun R => ∃ r h', R = .inl (some r, h') ∧ r = .int (oneV (fiN m i 201)) ∧ YL G bs y h (upd g 0 (nI 0)) m h') := by
          rintro r rfl
          refine r_aload_0 rfl ?_
          refine r_push rfl ?_
          refine r_push rfl ?_
          refine r_invvE rfl rfl o3 rfl rfl (by decide) (y_pass Q3 (n := 1) (by omega) false) ?_
          rintro r2 h4 ⟨rfl, q4⟩
          refine r_istore_4 rfl ?_
          refine r_iinc_3 rfl ?_
          refine r_goto rfl ?_
          rw [nI_1]
          exact kont _ _ ⟨⟨_, rfl⟩, q4⟩
        by_cases c : weightF (hourN false m j).2 (owedF (hourN false m j).2 (nI i)) ≤ (hourN false m j).2 (33 + 6 * i)
        · have e2 : fiC (hourN false m j).2 i = true := decide_eq_true c
          rw [e2, if_pos rfl] at ec
          refine r_aload_0 rfl ?_
          refine r_iload_1 rfl ?_
          refine r_push rfl ?_
          refine r_invvP_2 rfl (by assumption) rfl rfl (by decide) (c_of0 q3.1 (by omega)) ?_
          refine r_aload_0 rfl ?_
          refine r_aload_0 rfl ?_
          refine r_iload_1 rfl ?_
          refine r_push rfl ?_
          refine r_invvP_2 rfl (by assumption) rfl rfl (by decide) (c_mowed q3.1 v3 _ (k9 := 0) rfl (by decide)) ?_
          refine r_invvP_1 rfl (by assumption) rfl rfl (by decide) (c_mweightOf q3.1 v3 _) ?_
          refine r_icltF rfl (c) ?_
          refine r_iload_3 rfl ?_
          refine r_istore_2 rfl ?_
          exact go _ (by rw [ec]; rfl)
        · have e2 : fiC (hourN false m j).2 i = false := decide_eq_false c
          rw [e2, if_neg (by decide)] at ec
          refine r_aload_0 rfl ?_
          refine r_iload_1 rfl ?_
          refine r_push rfl ?_
          refine r_invvP_2 rfl (by assumption) rfl rfl (by decide) (c_of0 q3.1 (by omega)) ?_
          refine r_aload_0 rfl ?_
          refine r_aload_0 rfl ?_
          refine r_iload_1 rfl ?_
          refine r_push rfl ?_
          refine r_invvP_2 rfl (by assumption) rfl rfl (by decide) (c_mowed q3.1 v3 _ (k9 := 0) rfl (by decide)) ?_
          refine r_invvP_1 rfl (by assumption) rfl rfl (by decide) (c_mweightOf q3.1 v3 _) ?_
          refine r_icltT rfl (Int32.not_le.mp c) ?_
          exact go _ (congrArg oneV ec.symm)
    · obtain ⟨⟨x4, rfl⟩, q3⟩ := hI
      refine r_iload_3 rfl ?_
      refine r_push rfl ?_
      refine r_icgtT rfl (by decide) ?_
      exact exit _ _ _ _ _ q3 rfl
end
