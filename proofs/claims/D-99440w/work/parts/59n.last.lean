/-! WHAT IS AHEAD: last on both sides -/
set_option maxRecDepth 100000
/-- the first who is bowed, of the first so many -/
def laP (m : Nat → Int32) : Nat → Option Nat
  | 0 => none
  | k + 1 => match laP m k with
    | some c => some c
    | none => if bowF m k = true then some k else none
def laN (m : Nat → Int32) : Nat → Option (Nat × Nat)
  | 0 => none
  | j + 1 => match laN m j with
    | some z => some z
    | none => match laP (hourN false m j).2 (nP m) with
      | none => none
      | some p => some (j, p)
def lnk (j : Nat) : Option Nat → Option (Nat × Nat)
  | none => none
  | some p => some (j, p)
def laV (who : Int32) : Option (Nat × Nat) → Int32
  | none => -1
  | some (n, p) => if who = 0 then nI n else nI p
def lastF (m : Nat → Int32) (who : Int32) : Int32 := laV who (laN m 201)
theorem laP_go {m : Nat → Int32} {j c : Nat} (e : laP m j = some c) : ∀ n, laP m (j + n) = some c
  | 0 => e
  | n + 1 => by rw [show j + (n + 1) = (j + n) + 1 by omega, laP, laP_go e n]
theorem laP_to {m : Nat → Int32} {j c : Nat} (e : laP m j = some c) {n : Nat} (h : j ≤ n) : laP m n = some c := by
  obtain ⟨k, rfl⟩ := Nat.exists_eq_add_of_le h
  exact laP_go e k
theorem laN_go {m : Nat → Int32} {j : Nat} {c : Nat × Nat} (e : laN m j = some c) : ∀ n, laN m (j + n) = some c
  | 0 => e
  | n + 1 => by rw [show j + (n + 1) = (j + n) + 1 by omega, laN, laN_go e n]
theorem laN_to {m : Nat → Int32} {j : Nat} {c : Nat × Nat} (e : laN m j = some c) {n : Nat} (h : j ≤ n) : laN m n = some c := by
  obtain ⟨k, rfl⟩ := Nat.exists_eq_add_of_le h
  exact laN_go e k
theorem laP_lt {m : Nat → Int32} : ∀ j c, laP m j = some c → c < j
  | 0, c, e => by cases e
  | n + 1, c, e => by
    rw [laP] at e
    cases ez : laP m n with
    | some d => rw [ez] at e; have e9 : d = c := Option.some.inj e; have := laP_lt n d ez; omega
    | none =>
      rw [ez] at e
      simp only at e
      split at e
      · cases e; omega
      · cases e
theorem laN_lt {m : Nat → Int32} : ∀ j c, laN m j = some c → c.1 < j ∧ c.2 < nP m
  | 0, c, e => by cases e
  | n + 1, c, e => by
    rw [laN] at e
    cases ez : laN m n with
    | some d => rw [ez] at e; have e9 : d = c := Option.some.inj e; have := laN_lt n d ez; rw [← e9]; omega
    | none =>
      rw [ez] at e
      cases ep : laP (hourN false m n).2 (nP m) with
      | none => rw [ep] at e; cases e
      | some p =>
        rw [ep] at e
        cases e
        exact ⟨by show n < n + 1; omega, laP_lt _ _ ep⟩
theorem laV_ne {who : Int32} {n p : Nat} (hn : n < 1000) (hp : p < 1000) : laV who (some (n, p)) ≠ -1 := by
  show (if who = 0 then nI n else nI p) ≠ -1
  split
  · exact nI_neg1 (by omega)
  · exact nI_neg1 (by omega)
section
variable {G : am_G} {bs : Nat} {S : Nat → Prop} {h h0 : am_H} {x y : Nat} {hi : Bool} {m b g mt bt : Nat → Int32} {l lt : Value}
theorem c_xLast (q : HS G bs x (x + 1) S hi h m b l) (g1 : GEO bs x (x + 1) S) (ge : GEO bs x (x + 49) S) (qt : WA h (x + 49) mt bt lt) (who : Int32) : Ev G 46 m_X1_last [.ref x, .int who] h (fun v h' => v = .int (lastF m who) ∧ ∃ mx, HL G bs x (x + 49) S hi h b l mx h') := by
  have o := q.2.2.2.2.2.2.1
  have v := q.2.1
  have ot := wa_o qt
  unfold lastF
  refine wc_in mt_X1_last rfl (L := [.ref x, .int who, am_un, am_un]) rfl ?_
  refine r_aload_0 rfl ?_
  refine r_getf rfl o rfl ?_
  refine r_aload_0 rfl ?_
  refine r_getf rfl o rfl ?_
  refine r_invvE rfl rfl ot rfl rfl (by decide) (c_like q g1 ge qt (by omega)) ?_
  rintro r h1 ⟨rfl, k1⟩
  refine r_popR rfl ?_
  refine r_push rfl ?_
  refine r_istore_2 rfl ?_
  refine wp_forH 201 (fun j L h' => (∃ x3, L = [.ref x, .int who, .int (nI j), x3]) ∧ laN m j = none ∧ HL G bs x (x + 49) S hi h b l (hourN false m j).2 h') (fun j L h' hj hI kont => ?_) (fun L h' hI => ?_) _ _ ⟨⟨am_un, rfl⟩, rfl, k1⟩
  · obtain ⟨⟨x3, rfl⟩, en, K⟩ := hI
    have KK := K
    obtain ⟨⟨w2, v2, y2, -, -, -, o2, -⟩, f2⟩ := K
    have ow := wa_o w2
    obtain ⟨-, -, kr⟩ := hourN_ok (dr := false) v q.2.2.1 j
    have e3 : (hourN false m j).2 3 = nI (nP m) := by rw [kr.2.1]; exact v.pp.1
    have eP : nP (hourN false m j).2 = nP m := kr.np
    have hP := v.pp.2
    refine r_iload_2 rfl ?_
    refine r_push rfl ?_
    refine r_icgtF rfl (nI_le (b := 200) (by omega) (by decide)) ?_
    refine r_push rfl ?_
    refine r_istore_3 rfl ?_
    refine wp_forK (nP m) (fun k => [.ref x, .int who, .int (nI j), .int (nI k)]) (fun k => laP (hourN false m j).2 k = none) rfl (fun k hk pn kk => ?_) (fun pn => ?_)
    · have ec : laP (hourN false m j).2 (k + 1) = if bowF (hourN false m j).2 k = true then some k else none := by rw [laP, pn]
      cases eb : bowF (hourN false m j).2 k with
      | true =>
        rw [eb, if_pos rfl] at ec
        have e4 := laP_to ec (show k + 1 ≤ nP m by omega)
        have e5 : laN m (j + 1) = some (j, k) := by rw [laN, en, e4]
        have e6 := laN_to e5 (show j + 1 ≤ 201 by omega)
        by_cases c : who = 0
        · refine r_iload_3 rfl ?_
          refine r_aload_0 rfl ?_
          refine r_getf rfl (by assumption) (by rfl) ?_
          refine r_getf rfl (by assumption) (by rfl) ?_
          refine r_icgeF rfl (by rw [e3]; exact nI_lt hk (by omega)) ?_
          refine r_aload_0 rfl ?_
          refine r_getf rfl (by assumption) (by rfl) ?_
          refine r_iload_3 rfl ?_
          refine r_invvP_1 rfl (by assumption) rfl rfl (by decide) (c_isBowed w2 v2 y2 (by rw [eP]; exact hk)) ?_
          refine r_ifeqF rfl (by rw [eb]; decide) ?_
          refine r_iload_1 rfl ?_
          refine r_ifeqT rfl (c) ?_
          refine r_iload_2 rfl ?_
          refine r_iret rfl ?_
          refine ⟨_, _, rfl, ?_, _, KK⟩
          rw [e6]
          show _ = Value.int (if who = 0 then nI j else nI k)
          rw [if_pos c]
        · refine r_iload_3 rfl ?_
          refine r_aload_0 rfl ?_
          refine r_getf rfl (by assumption) (by rfl) ?_
          refine r_getf rfl (by assumption) (by rfl) ?_
          refine r_icgeF rfl (by rw [e3]; exact nI_lt hk (by omega)) ?_
          refine r_aload_0 rfl ?_
          refine r_getf rfl (by assumption) (by rfl) ?_
          refine r_iload_3 rfl ?_
          refine r_invvP_1 rfl (by assumption) rfl rfl (by decide) (c_isBowed w2 v2 y2 (by rw [eP]; exact hk)) ?_
          refine r_ifeqF rfl (by rw [eb]; decide) ?_
          refine r_iload_1 rfl ?_
          refine r_ifeqF rfl (c) ?_
          refine r_iload_3 rfl ?_
          refine r_goto rfl ?_
          refine r_iret rfl ?_
          refine ⟨_, _, rfl, ?_, _, KK⟩
          rw [e6]
          show _ = Value.int (if who = 0 then nI j else nI k)
          rw [if_neg c]
      | false =>
        rw [eb, if_neg (by decide)] at ec
        refine r_iload_3 rfl ?_
        refine r_aload_0 rfl ?_
        refine r_getf rfl (by assumption) (by rfl) ?_
        refine r_getf rfl (by assumption) (by rfl) ?_
        refine r_icgeF rfl (by rw [e3]; exact nI_lt hk (by omega)) ?_
        refine r_aload_0 rfl ?_
        refine r_getf rfl (by assumption) (by rfl) ?_
        refine r_iload_3 rfl ?_
        refine r_invvP_1 rfl (by assumption) rfl rfl (by decide) (c_isBowed w2 v2 y2 (by rw [eP]; exact hk)) ?_
        refine r_ifeqT rfl (by rw [eb]; rfl) ?_
        refine r_iinc_3 rfl ?_
        refine r_goto rfl ?_
        rw [nI_1]
        exact kk ec
    · have e5 : laN m (j + 1) = none := by rw [laN, en, pn]
      refine r_iload_3 rfl ?_
      refine r_aload_0 rfl ?_
      refine r_getf rfl (by assumption) (by rfl) ?_
      refine r_getf rfl (by assumption) (by rfl) ?_
      refine r_icgeT rfl (by rw [e3]; exact Int32.le_refl _) ?_
      refine r_aload_0 rfl ?_
      refine r_aload_0 rfl ?_
      refine r_getf rfl (by assumption) (by rfl) ?_
      refine r_push rfl ?_
      refine r_invvE rfl rfl (by assumption) rfl rfl (by decide) (c_anHour (dr := false) KK ge) ?_
      rintro r2 h3 ⟨rfl, q3⟩
      refine r_pop rfl ?_
      refine r_iinc_2 rfl ?_
      refine r_goto rfl ?_
      rw [nI_1]
      exact kont _ _ ⟨⟨_, rfl⟩, e5, q3⟩
  · obtain ⟨⟨x3, rfl⟩, en, K⟩ := hI
    refine r_iload_2 rfl ?_
    refine r_push rfl ?_
    refine r_icgtT rfl (by decide) ?_
    refine r_push rfl ?_
    refine r_iret rfl ?_
    refine ⟨_, _, rfl, ?_, _, K⟩
    rw [en]
    rfl
theorem c_yLast (q : MZ G bs h y g m) (as : ASD h y) (v : VR m) (yb : BY b m) (lv : LV m) (who : Int32) : Ev G 35 m_X6_last [.ref y, .int who] h (fun r h' => r = .int (lastF m who) ∧ YL G bs y h (upd g 0 (nI 0)) m h') := by
  have o := q.1.1
  have z3 := YL.thr q as (nI 0)
  have hP := v.pp.2
  unfold lastF
  refine wc_in mt_X6_last rfl (L := [.ref y, .int who, am_un, am_un, am_un]) rfl ?_
  refine r_aload_0 rfl ?_
  refine r_push rfl ?_
  refine r_puti rfl o rfl ?_
  rw [mo_0]
  refine r_aload_0 rfl ?_
  refine r_invvF rfl rfl am_set_at rfl rfl (by decide) (y_put z3 v yb lv) ?_
  rintro h2 q2
  refine r_push rfl ?_
  refine r_istore_2 rfl ?_
  refine r_push rfl ?_
  refine r_istore_3 rfl ?_
  have exit : ∀ (h3 : am_H) (mt : Nat → Int32) (r : Int32) x3 x4, YA G bs y h (upd g 0 (nI 0)) b m mt h3 → r = laV who (laN m 201) → Wp G 35 mt_X6_last 84 [.ref y, .int who, .int r, x3, x4] [] h3 (fun R => ∃ r h', R = .inl (some r, h') ∧ r = .int (laV who (laN m 201)) ∧ YL G bs y h (upd g 0 (nI 0)) m h') := by
    rintro h3 mt r x3 x4 q3 rfl
    have Q3 := q3
    obtain ⟨g3, q3, -⟩ := q3
    have o3 := q3.1.1
    refine r_aload_0 rfl ?_
    refine r_invvF rfl rfl (by assumption) rfl rfl (by decide) (y_back Q3) ?_
    rintro h4 q4
    refine r_iload_2 rfl ?_
    refine r_iret rfl ?_
    exact ⟨_, _, rfl, rfl, q4⟩
  refine wp_forH 201 (fun j L h' => (∃ x4, L = [.ref y, .int who, .int (laV who (laN m j)), .int (nI j), x4]) ∧ YA G bs y h (upd g 0 (nI 0)) b m (hourN false m j).2 h') (fun j L h' hj hI kont => ?_) (fun L h' hI => ?_) _ _ ⟨⟨am_un, rfl⟩, q2⟩
  · obtain ⟨⟨x4, rfl⟩, q3⟩ := hI
    have Q3 := q3
    obtain ⟨g3, q3, -, v3, -⟩ := q3
    have o3 := q3.1.1; have r3 := q3.1.2
    obtain ⟨-, -, kr⟩ := hourN_ok (dr := false) v yb j
    have e3 : (hourN false m j).2 3 = nI (nP m) := by rw [kr.2.1]; exact v.pp.1
    have eP : nP (hourN false m j).2 = nP m := kr.np
    refine r_iload_3 rfl ?_
    refine r_push rfl ?_
    refine r_icgtF rfl (nI_le (b := 200) (by omega) (by decide)) ?_
    refine r_iload_2 rfl ?_
    refine r_push rfl ?_
    cases en : laN m j with
    | some c =>
      have e4 := laN_to en (show j ≤ 201 by omega)
      have hl := laN_lt j c en
      obtain ⟨c1, c2⟩ := c
      refine r_icneT rfl (laV_ne (by omega) (by omega)) ?_
      exact exit _ _ _ _ _ Q3 (by rw [e4])
    | none =>
      refine r_icneF rfl rfl ?_
      refine r_push rfl ?_
      refine r_istore_4 rfl ?_
      have ec : laN m (j + 1) = lnk j (laP (hourN false m j).2 (nP m)) := by
        rw [laN, en]
        cases laP (hourN false m j).2 (nP m) <;> rfl
      have go : ∀ (x4 : Value), Wp G 35 mt_X6_last 70 [.ref y, .int who, .int (laV who (lnk j (laP (hourN false m j).2 (nP m)))), .int (nI j), x4] [] h' (fun R => ∃ r h', R = .inl (some r, h') ∧ r = .int (laV who (laN m 201)) ∧ YL G bs y h (upd g 0 (nI 0)) m h') := by
        intro x4
        rw [← ec]
        refine r_aload_0 rfl ?_
        refine r_push rfl ?_
        refine r_push rfl ?_
        refine r_invvE rfl rfl o3 rfl rfl (by decide) (y_pass Q3 (n := 1) (by omega) false) ?_
        rintro r2 h4 ⟨rfl, q4⟩
        refine r_istore_4 rfl ?_
        refine r_iinc_3 rfl ?_
        refine r_goto rfl ?_
        rw [nI_1]
        exact kont _ _ ⟨⟨_, rfl⟩, q4⟩
      refine wp_for (nP m) (fun k => [.ref y, .int who, .int (laV who (lnk j (laP (hourN false m j).2 k))), .int (nI j), .int (nI k)]) (fun k hk kk => ?_) ?_
      · rw [laP] at kk
        refine r_iload_4 rfl ?_
        refine r_aload_0 rfl ?_
        refine r_getf rfl o3 rfl ?_
        refine r_push rfl ?_
        refine r_iald rfl r3 (show (3 : Int32) = nI 3 from rfl) (by decide) (by decide) ?_
        rw [e3]
        refine r_icgeF rfl (nI_lt hk (by omega)) ?_
        refine r_iload_2 rfl ?_
        refine r_push rfl ?_
        cases ez : laP (hourN false m j).2 k with
        | some p =>
          have e9 := laP_to ez (show k ≤ nP m by omega)
          have := laP_lt k p ez
          rw [e9] at go
          refine r_icneT rfl (laV_ne (by omega) (by omega)) ?_
          exact go _
        | none =>
          rw [ez] at kk
          refine r_icneF rfl rfl ?_
          refine r_aload_0 rfl ?_
          refine r_iload_4 rfl ?_
          refine r_invvP_1 rfl o3 rfl rfl (by decide) (c_misBowed q3.1 v3 (by rw [eP]; exact hk)) ?_
          cases eb : bowF (hourN false m j).2 k with
          | true =>
            rw [eb] at kk
            simp only [if_true] at kk
            refine r_ifeqF rfl (by decide) ?_
            by_cases c : who = 0
            · refine r_iload_1 rfl ?_
              refine r_ifeqT rfl (c) ?_
              refine r_iload_3 rfl ?_
              refine r_istore_2 rfl ?_
              refine r_iinc_4 rfl ?_
              refine r_goto rfl ?_
              rw [nI_1]
              rw [show laV who (lnk j (some k)) = nI j from if_pos c] at kk
              exact kk
            · refine r_iload_1 rfl ?_
              refine r_ifeqF rfl (c) ?_
              refine r_iload_4 rfl ?_
              refine r_goto rfl ?_
              refine r_istore_2 rfl ?_
              refine r_iinc_4 rfl ?_
              refine r_goto rfl ?_
              rw [nI_1]
              rw [show laV who (lnk j (some k)) = nI k from if_neg c] at kk
              exact kk
          | false =>
            rw [eb] at kk
            refine r_ifeqT rfl rfl ?_
            refine r_iinc_4 rfl ?_
            refine r_goto rfl ?_
            rw [nI_1]
            exact kk
      · refine r_iload_4 rfl ?_
        refine r_aload_0 rfl ?_
        refine r_getf rfl (by assumption) (by rfl) ?_
        refine r_push rfl ?_
        refine r_iald rfl (r3) (show (3 : Int32) = nI 3 from rfl) (by first | assumption | omega) (by first | decide | omega) ?_
        refine r_icgeT rfl (by rw [e3]; exact Int32.le_refl _) ?_
        exact go _
  · obtain ⟨⟨x4, rfl⟩, q3⟩ := hI
    refine r_iload_3 rfl ?_
    refine r_push rfl ?_
    refine r_icgtT rfl (by decide) ?_
    exact exit _ _ _ _ _ q3 rfl
end
