/-! SOUND, the fourth part: am_SN of the acts over the heap, of calls, of ends -/
set_option maxRecDepth 100000
theorem am_pop_spec : ∀ {n : Nat} {acc st As rest : List Value}, am_pop n acc st = some (As, rest) → ∃ ys, ys.length = n ∧ st = ys ++ rest ∧ As = ys.reverse ++ acc
  | 0, acc, st, As, rest, h => by
    cases h
    exact ⟨[], rfl, rfl, rfl⟩
  | n + 1, acc, [], As, rest, h => by cases h
  | n + 1, acc, v :: st, As, rest, h => by
    obtain ⟨ys, h1, h2, h3⟩ := am_pop_spec (n := n) h
    refine ⟨v :: ys, by rw [List.length_cons, h1], by rw [h2]; rfl, ?_⟩
    rw [h3, List.reverse_cons, List.append_assoc]
    rfl
theorem am_popd {n : Nat} {st As rest : List Value} (h : am_pop n [] st = some (As, rest)) : As.length = n ∧ st = As.reverse ++ rest := by
  obtain ⟨ys, h1, h2, h3⟩ := am_pop_spec h
  rw [List.append_nil] at h3
  subst h3
  exact ⟨by rw [List.length_reverse]; exact h1, by rw [List.reverse_reverse]; exact h2⟩
theorem am_dp_mem {c k : Nat} : ∀ {ds : List (Nat × Nat)}, am_dp c ds = some k → ∃ d, (d, k) ∈ ds ∧ am_cc c d = true
  | [], h => nomatch h
  | (d, k') :: r, h => by
    unfold am_dp at h
    cases h1 : am_cc c d with
    | true =>
      rw [h1] at h
      cases h
      exact ⟨d, List.mem_cons_self, h1⟩
    | false =>
      rw [h1] at h
      obtain ⟨d', h2, h3⟩ := am_dp_mem (ds := r) h
      exact ⟨d', List.mem_cons_of_mem _ h2, h3⟩
theorem am_in_mem {c : Nat} : ∀ {ds : List Nat}, am_in c ds = true → ∃ d, d ∈ ds ∧ am_cc c d = true
  | [], h => nomatch h
  | d :: r, h => by
    unfold am_in at h
    cases h1 : am_cc c d with
    | true => exact ⟨d, List.mem_cons_self, h1⟩
    | false =>
      rw [h1] at h
      obtain ⟨d', h2, h3⟩ := am_in_mem (ds := r) h
      exact ⟨d', List.mem_cons_of_mem _ h2, h3⟩
/-- a class's fields, as the tables tell them -/
def am_Cf (ci : Nat) (C : String) (T : u_T) (N : Nat) (ty0 : Nat → FieldType) : Prop := am_cl[ci]? = some (C, T, N) ∧ ci < 18 ∧ (∀ w ∈ u_ws C T N, w ∈ lw_all) ∧ (∀ k, k < N → parseFieldDescriptor (T k).2.2.1 = some (ty0 k)) ∧ (∀ a, a < N → ∀ b, b < N → a ≠ b → (T a).2.1 ≠ (T b).2.1)
section
variable {l : Launch} {D : va_G} {tc : Nat → ClassId} {G : am_G} {bs : Nat} {own nm : String} {cc : ByteArray} {mL : Nat} {ret : Option FieldType} {hh : List (Nat × Nat × Nat × Nat × Nat)} {pc nx : Nat}
theorem mo_set {h : am_H} {a : Nat} {e : am_C} : h.2.1 ≤ (am_set h a e).2.1 ∧ h.2.2 ≤ (am_set h a e).2.2 := ⟨Nat.le_refl _, Nat.le_refl _⟩
theorem mo_new {h : am_H} {e : am_C} {n : Nat} : h.2.1 ≤ (am_new h e n).2.1 ∧ h.2.2 ≤ (am_new h e n).2.2 := ⟨Nat.le_succ _, Nat.le_add_right _ _⟩

theorem sn_iald (hd : decode cc pc = .ok (.iaload, 1)) (hn : pc + 1 = nx) : am_SN l D tc G bs own nm cc mL ret hh pc (a_iald nx) := by
  refine ⟨fun G L st h r hr => ?_, ?_⟩
  · unfold a_iald at hr
    (repeat' split at hr) <;> first | contradiction | (simp only [cond_eq_ite] at hr; split at hr <;> first | contradiction | (have e9 := Option.some.inj (show some _ = some r from hr); subst e9; first | exact mo_refl | exact mo_set | exact mo_new | rfl))
  intro p e R s m args below meth c d sl0 O X L st h r hr po hLn
  obtain ⟨hx, hb, hmL, hrt, hlk, hown, hts, hmn, w, hst, hR, hno⟩ := X
  have hbs := w.2.2.2.2.2.2.2.2.2.2.2.2.2
  unfold a_iald at hr
  split at hr
  · rename_i i a st
    split at hr
    · rename_i t n f ha
      split at hr
      · contradiction
      · rename_i hi
        cases h1 : am_cc t 0 with
        | false => rw [h1] at hr; contradiction
        | true =>
          rw [h1] at hr
          have e9 := Option.some.inj (show some _ = some r from hr); subst e9
          subst hn
          exact kk_iald hx hb w.1 hd ha h1 hi po.2
    · contradiction
  · contradiction
theorem sn_bald (hd : decode cc pc = .ok (.baload, 1)) (hn : pc + 1 = nx) : am_SN l D tc G bs own nm cc mL ret hh pc (a_bald nx) := by
  refine ⟨fun G L st h r hr => ?_, ?_⟩
  · unfold a_bald at hr
    (repeat' split at hr) <;> first | contradiction | (simp only [cond_eq_ite] at hr; split at hr <;> first | contradiction | (have e9 := Option.some.inj (show some _ = some r from hr); subst e9; first | exact mo_refl | exact mo_set | exact mo_new | rfl))
  intro p e R s m args below meth c d sl0 O X L st h r hr po hLn
  obtain ⟨hx, hb, hmL, hrt, hlk, hown, hts, hmn, w, hst, hR, hno⟩ := X
  have hbs := w.2.2.2.2.2.2.2.2.2.2.2.2.2
  unfold a_bald at hr
  split at hr
  · rename_i i a st
    split at hr
    · rename_i t n f ha
      split at hr
      · contradiction
      · rename_i hi
        cases h1 : (Nat.beq t 1 || am_cc t 2) with
        | false => rw [h1] at hr; contradiction
        | true =>
          rw [h1] at hr
          have e9 := Option.some.inj (show some _ = some r from hr); subst e9
          subst hn
          exact kk_bald hx hb w.1 hd ha (by simp only [Bool.or_eq_true] at h1; exact h1.elim (fun q => Or.inl (Nat.eq_of_beq_eq_true q)) Or.inr) hi po.2
    · contradiction
  · contradiction
theorem sn_aald (hd : decode cc pc = .ok (.aaload, 1)) (hn : pc + 1 = nx) : am_SN l D tc G bs own nm cc mL ret hh pc (a_aald nx) := by
  refine ⟨fun G L st h r hr => ?_, ?_⟩
  · unfold a_aald at hr
    (repeat' split at hr) <;> first | contradiction | (simp only [cond_eq_ite] at hr; split at hr <;> first | contradiction | (have e9 := Option.some.inj (show some _ = some r from hr); subst e9; first | exact mo_refl | exact mo_set | exact mo_new | rfl))
  intro p e R s m args below meth c d sl0 O X L st h r hr po hLn
  obtain ⟨hx, hb, hmL, hrt, hlk, hown, hts, hmn, w, hst, hR, hno⟩ := X
  have hbs := w.2.2.2.2.2.2.2.2.2.2.2.2.2
  unfold a_aald at hr
  split at hr
  · rename_i i a st
    split at hr
    · rename_i t n f ha
      split at hr
      · contradiction
      · rename_i hi
        cases h1 : (Nat.blt 3 (am_z t)) with
        | false => rw [h1] at hr; contradiction
        | true =>
          rw [h1] at hr
          have e9 := Option.some.inj (show some _ = some r from hr); subst e9
          subst hn
          exact kk_aald hx hb w.1 hd ha (Nat.le_of_ble_eq_true h1) hi po.2
    · contradiction
  · contradiction
theorem sn_lald (hd : decode cc pc = .ok (.laload, 1)) (hn : pc + 1 = nx) : am_SN l D tc G bs own nm cc mL ret hh pc (a_lald nx) := by
  refine ⟨fun G L st h r hr => ?_, ?_⟩
  · unfold a_lald at hr
    (repeat' split at hr) <;> first | contradiction | (have e9 := Option.some.inj (show some _ = some r from hr); subst e9; first | exact mo_refl | exact mo_set | exact mo_new | rfl)
  intro p e R s m args below meth c d sl0 O X L st h r hr po hLn
  obtain ⟨hx, hb, hmL, hrt, hlk, hown, hts, hmn, w, hst, hR, hno⟩ := X
  have hbs := w.2.2.2.2.2.2.2.2.2.2.2.2.2
  unfold a_lald at hr
  split at hr
  · rename_i i a st
    split at hr
    · rename_i n f ha
      split at hr
      · contradiction
      · rename_i hi
        have e9 := Option.some.inj (show some _ = some r from hr); subst e9
        subst hn
        exact kk_lald hx hb w.1 hd ha hi po.2
    · contradiction
  · contradiction
theorem sn_iast (hd : decode cc pc = .ok (.iastore, 1)) (hn : pc + 1 = nx) : am_SN l D tc G bs own nm cc mL ret hh pc (a_iast nx) := by
  refine ⟨fun G L st h r hr => ?_, ?_⟩
  · unfold a_iast at hr
    (repeat' split at hr) <;> first | contradiction | (have e9 := Option.some.inj (show some _ = some r from hr); subst e9; first | exact mo_refl | exact mo_set | exact mo_new | rfl)
  intro p e R s m args below meth c d sl0 O X L st h r hr po hLn
  obtain ⟨hx, hb, hmL, hrt, hlk, hown, hts, hmn, w, hst, hR, hno⟩ := X
  have hbs := w.2.2.2.2.2.2.2.2.2.2.2.2.2
  unfold a_iast at hr
  split at hr
  · rename_i x i a st
    split at hr
    · rename_i n f ha
      split at hr
      · contradiction
      · rename_i hi
        have e9 := Option.some.inj (show some _ = some r from hr); subst e9
        subst hn
        exact kk_iast hx hb w.1 hbs hd ha hi po.2
    · contradiction
  · contradiction
theorem sn_last (hd : decode cc pc = .ok (.lastore, 1)) (hn : pc + 1 = nx) : am_SN l D tc G bs own nm cc mL ret hh pc (a_last nx) := by
  refine ⟨fun G L st h r hr => ?_, ?_⟩
  · unfold a_last at hr
    (repeat' split at hr) <;> first | contradiction | (have e9 := Option.some.inj (show some _ = some r from hr); subst e9; first | exact mo_refl | exact mo_set | exact mo_new | rfl)
  intro p e R s m args below meth c d sl0 O X L st h r hr po hLn
  obtain ⟨hx, hb, hmL, hrt, hlk, hown, hts, hmn, w, hst, hR, hno⟩ := X
  have hbs := w.2.2.2.2.2.2.2.2.2.2.2.2.2
  unfold a_last at hr
  split at hr
  · rename_i x i a st
    split at hr
    · rename_i n f ha
      split at hr
      · contradiction
      · rename_i hi
        have e9 := Option.some.inj (show some _ = some r from hr); subst e9
        subst hn
        exact kk_last hx hb w.1 hbs hd ha hi po.2
    · contradiction
  · contradiction
theorem sn_bast (hd : decode cc pc = .ok (.bastore, 1)) (hn : pc + 1 = nx) : am_SN l D tc G bs own nm cc mL ret hh pc (a_bast nx) := by
  refine ⟨fun G L st h r hr => ?_, ?_⟩
  · unfold a_bast at hr
    (repeat' split at hr) <;> first | contradiction | (have e9 := Option.some.inj (show some _ = some r from hr); subst e9; first | exact mo_refl | exact mo_set | exact mo_new | rfl)
  intro p e R s m args below meth c d sl0 O X L st h r hr po hLn
  obtain ⟨hx, hb, hmL, hrt, hlk, hown, hts, hmn, w, hst, hR, hno⟩ := X
  have hbs := w.2.2.2.2.2.2.2.2.2.2.2.2.2
  unfold a_bast at hr
  split at hr
  · rename_i x i a st
    split at hr
    · rename_i n f ha
      split at hr
      · contradiction
      · rename_i hi
        have e9 := Option.some.inj (show some _ = some r from hr); subst e9
        subst hn
        intro H ls locs cells slots r1 r2 r3 r4 r5
        have hok := r1.2.2 a _ ha
        simp only [am_ok, if_pos (show (1 : Nat) < 100 by decide)] at hok
        exact kk_zast hx hb w.1 hbs hd ha hok.2.1 hi po.2 H ls locs cells slots r1 r2 r3 r4 r5
    · rename_i n f ha
      split at hr
      · contradiction
      · rename_i hi
        have e9 := Option.some.inj (show some _ = some r from hr); subst e9
        subst hn
        intro H ls locs cells slots r1 r2 r3 r4 r5
        have hok := r1.2.2 a _ ha
        simp only [am_ok, if_pos (show (2 : Nat) < 100 by decide)] at hok
        exact kk_bast hx hb w.1 hbs hd ha hok.2.1 hi po.2 H ls locs cells slots r1 r2 r3 r4 r5
    · contradiction
  · contradiction
theorem sn_aast (hd : decode cc pc = .ok (.aastore, 1)) (hn : pc + 1 = nx) : am_SN l D tc G bs own nm cc mL ret hh pc (a_aast nx) := by
  refine ⟨fun G L st h r hr => ?_, ?_⟩
  · unfold a_aast at hr
    (repeat' split at hr) <;> first | contradiction | (have e9 := Option.some.inj (show some _ = some r from hr); subst e9; first | exact mo_refl | exact mo_set | exact mo_new | rfl)
  intro p e R s m args below meth c d sl0 O X L st h r hr po hLn
  obtain ⟨hx, hb, hmL, hrt, hlk, hown, hts, hmn, w, hst, hR, hno⟩ := X
  have hbs := w.2.2.2.2.2.2.2.2.2.2.2.2.2
  unfold a_aast at hr
  split at hr
  · rename_i v i a st
    split at hr
    · rename_i n f ha
      split at hr
      · contradiction
      · rename_i hi
        split at hr
        · rename_i w9 hel
          have e9 := Option.some.inj (show some _ = some r from hr); subst e9
          subst hn
          unfold am_el at hel
          split at hel
          · cases hel
            exact kk_aastN hx hb w.1 hbs hd ha hi po.2
          · rename_i b
            split at hel
            · rename_i q9 hv
              cases hel
              exact kk_aast hx hb w.1 w.2.1 hbs hd ha hv hi po.2
            · contradiction
          · contradiction
        · contradiction
    · contradiction
  · contradiction
theorem sn_alen (hd : decode cc pc = .ok (.arraylength, 1)) (hn : pc + 1 = nx) : am_SN l D tc G bs own nm cc mL ret hh pc (a_arraylength nx) := by
  refine ⟨fun G L st h r hr => ?_, ?_⟩
  · unfold a_arraylength at hr
    (repeat' split at hr) <;> first | contradiction | (have e9 := Option.some.inj (show some _ = some r from hr); subst e9; first | exact mo_refl | exact mo_set | exact mo_new | rfl)
  intro p e R s m args below meth c d sl0 O X L st h r hr po hLn
  obtain ⟨hx, hb, hmL, hrt, hlk, hown, hts, hmn, w, hst, hR, hno⟩ := X
  have hbs := w.2.2.2.2.2.2.2.2.2.2.2.2.2
  unfold a_arraylength at hr
  split at hr
  · rename_i a st
    split at hr
    · rename_i t n x ha
      have e9 := Option.some.inj (show some _ = some r from hr); subst e9
      subst hn
      exact kk_alen hx hb w.1 hd ha po.2
    · contradiction
  · contradiction
theorem sn_getf {ci i index : Nat} {C ref : String} {T : u_T} {N : Nat} {ty0 : Nat → FieldType} (hd : decode cc pc = .ok (.getfield index, 3)) (hC : am_Cf ci C T N ty0) (hi : i < N) (hl : (Cond.fieldLink own index ref (T i).2.1 (T i).2.2.1) ∈ lw_all) (hs : ref = (T i).1 ∨ (Cond.sameField ref (T i).1 (T i).2.1 (T i).2.2.1) ∈ lw_all) (hn : pc + 3 = nx) : am_SN l D tc G bs own nm cc mL ret hh pc (a_getf ci i nx) := by
  refine ⟨fun G L st h r hr => ?_, ?_⟩
  · unfold a_getf at hr
    split at hr
    · split at hr
      · rename_i c0 fs ha
        cases h1 : am_cc c0 ci with
        | false => rw [h1] at hr; contradiction
        | true =>
          rw [h1] at hr
          simp only [cond_true] at hr
          split at hr
          · have e9 := Option.some.inj (show some _ = some r from hr); subst e9; exact mo_refl
          · contradiction
      · contradiction
    · contradiction
  intro p e R s m args below meth c d sl0 O X L st h r hr po hLn
  obtain ⟨hx, hb, hmL, hrt, hlk, hown, hts, hmn, w, hst, hR, hno⟩ := X
  have hbs := w.2.2.2.2.2.2.2.2.2.2.2.2.2
  unfold a_getf at hr
  split at hr
  · rename_i a st
    split at hr
    · rename_i c0 fs ha
      cases h1 : am_cc c0 ci with
      | false => rw [h1] at hr; contradiction
      | true =>
        rw [h1] at hr
        simp only [cond_true] at hr
        split at hr
        · rename_i v hv
          have e9 := Option.some.inj (show some _ = some r from hr); subst e9
          subst hn
          exact kk_getf hx hb w.1 hown (am_FI.of hts hC.2.2.1 w.1 hC.1 hi) (hts _ hl) (fun x q => hs.elim (fun e => by rw [e]; exact q) (fun e => u_same (hts _ e) x q)) hd ha h1 (by have := hC.2.1; omega) hv po.2
        · contradiction
    · contradiction
  · contradiction
theorem sn_getfN {ci i index : Nat} {C host : String} {T : u_T} {N : Nat} {ty0 : Nat → FieldType} (hd : decode cc pc = .ok (.getfield index, 3)) (hC : am_Cf ci C T N ty0) (hi : i < N) (hl : Cond.fieldLinkNest own index (T i).1 (T i).2.1 (T i).2.2.1 host ∈ am_nw) (hn : pc + 3 = nx) : am_SN l D tc G bs own nm cc mL ret hh pc (a_getf ci i nx) := by
  refine ⟨fun G L st h r hr => ?_, ?_⟩
  · unfold a_getf at hr
    split at hr
    · split at hr
      · rename_i c0 fs ha
        cases h1 : am_cc c0 ci with
        | false => rw [h1] at hr; contradiction
        | true =>
          rw [h1] at hr
          simp only [cond_true] at hr
          split at hr
          · have e9 := Option.some.inj (show some _ = some r from hr); subst e9; exact mo_refl
          · contradiction
      · contradiction
    · contradiction
  intro p e R s m args below meth c d sl0 O X L st h r hr po hLn
  obtain ⟨hx, hb, hmL, hrt, hlk, hown, hts, hmn, w, hst, hR, hno⟩ := X
  have hbs := w.2.2.2.2.2.2.2.2.2.2.2.2.2
  unfold a_getf at hr
  split at hr
  · rename_i a st
    split at hr
    · rename_i c0 fs ha
      cases h1 : am_cc c0 ci with
      | false => rw [h1] at hr; contradiction
      | true =>
        rw [h1] at hr
        simp only [cond_true] at hr
        split at hr
        · rename_i v hv
          have e9 := Option.some.inj (show some _ = some r from hr); subst e9
          subst hn
          exact kk_getfN hx hb w.1 hown (am_FI.of hts hC.2.2.1 w.1 hC.1 hi) (va_Nw.use rfl (w.2.2.2.2.2.2.1 _ _ _ _ _ _ hl)) hd ha h1 (by have := hC.2.1; omega) hv po.2
        · contradiction
    · contradiction
  · contradiction
theorem sn_getfE {ci i index : Nat} {o9 n9 d9 : String} (hd : decode cc pc = .ok (.getfield index, 3)) (hF : ∀ s, am_WS D tc G bs s → am_FI D ci s i o9 n9 d9) (hci : ci < 100) (hl : (Cond.fieldLink own index o9 n9 d9) ∈ lw_all) (hn : pc + 3 = nx) : am_SN l D tc G bs own nm cc mL ret hh pc (a_getf ci i nx) := by
  refine ⟨fun G L st h r hr => ?_, ?_⟩
  · unfold a_getf at hr
    split at hr
    · split at hr
      · rename_i c0 fs ha
        cases h1 : am_cc c0 ci with
        | false => rw [h1] at hr; contradiction
        | true =>
          rw [h1] at hr
          simp only [cond_true] at hr
          split at hr
          · have e9 := Option.some.inj (show some _ = some r from hr); subst e9; exact mo_refl
          · contradiction
      · contradiction
    · contradiction
  intro p e R s m args below meth c d sl0 O X L st h r hr po hLn
  obtain ⟨hx, hb, hmL, hrt, hlk, hown, hts, hmn, w, hst, hR, hno⟩ := X
  have hbs := w.2.2.2.2.2.2.2.2.2.2.2.2.2
  unfold a_getf at hr
  split at hr
  · rename_i a st
    split at hr
    · rename_i c0 fs ha
      cases h1 : am_cc c0 ci with
      | false => rw [h1] at hr; contradiction
      | true =>
        rw [h1] at hr
        simp only [cond_true] at hr
        split at hr
        · rename_i v hv
          have e9 := Option.some.inj (show some _ = some r from hr); subst e9
          subst hn
          exact kk_getf hx hb w.1 hown (hF s w) (hts _ hl) (fun x q => q) hd ha h1 hci hv po.2
        · contradiction
    · contradiction
  · contradiction
theorem sn_puti {ci i index : Nat} {C ref : String} {T : u_T} {N : Nat} {ty0 : Nat → FieldType} (hd : decode cc pc = .ok (.putfield index, 3)) (hC : am_Cf ci C T N ty0) (hi : i < N) (hl : (Cond.fieldLink own index ref (T i).2.1 (T i).2.2.1) ∈ lw_all) (hs : ref = (T i).1 ∨ (Cond.sameField ref (T i).1 (T i).2.1 (T i).2.2.1) ∈ lw_all) (hfin : (T i).2.2.2 = false) (hty : parseFieldDescriptor (T i).2.2.1 = some .int) (hn : pc + 3 = nx) : am_SN l D tc G bs own nm cc mL ret hh pc (a_puti ci i nx) := by
  refine ⟨fun G L st h r hr => ?_, ?_⟩
  · unfold a_puti at hr
    (repeat' split at hr) <;> first | contradiction | (unfold am_puts at hr; (repeat' split at hr) <;> first | contradiction | (simp only [cond_eq_ite] at hr; split at hr <;> first | contradiction | (have e9 := Option.some.inj (show some _ = some r from hr); subst e9; exact mo_set)))
  intro p e R s m args below meth c d sl0 O X L st h r hr po hLn
  obtain ⟨hx, hb, hmL, hrt, hlk, hown, hts, hmn, w, hst, hR, hno⟩ := X
  have hbs := w.2.2.2.2.2.2.2.2.2.2.2.2.2
  unfold a_puti at hr
  split at hr
  · rename_i x st
    unfold am_puts at hr
    split at hr
    · rename_i a st
      split at hr
      · rename_i c0 fs ha
        cases h1 : (Nat.beq c0 ci && Nat.blt i fs.length) with
        | false => rw [h1] at hr; contradiction
        | true =>
          rw [h1] at hr
          simp only [Bool.and_eq_true] at h1
          have e0 := Nat.eq_of_beq_eq_true h1.1
          subst e0
          have e9 := Option.some.inj (show some _ = some r from hr); subst e9
          subst hn
          exact kk_put hx hb w.1 hown hbs hts hC.2.2.1 hC.2.2.2.1 hC.2.2.2.2 hC.1 hi hC.2.1 (hts _ hl) (fun x q => hs.elim (fun e => by rw [e]; exact q) (fun e => u_same (hts _ e) x q)) hfin hty rfl rfl hd ha (Nat.le_of_ble_eq_true h1.2) po.2
      · contradiction
    · contradiction
  · contradiction
theorem sn_putz {ci i index : Nat} {C ref : String} {T : u_T} {N : Nat} {ty0 : Nat → FieldType} (hd : decode cc pc = .ok (.putfield index, 3)) (hC : am_Cf ci C T N ty0) (hi : i < N) (hl : (Cond.fieldLink own index ref (T i).2.1 (T i).2.2.1) ∈ lw_all) (hs : ref = (T i).1 ∨ (Cond.sameField ref (T i).1 (T i).2.1 (T i).2.2.1) ∈ lw_all) (hfin : (T i).2.2.2 = false) (hty : parseFieldDescriptor (T i).2.2.1 = some .boolean) (hn : pc + 3 = nx) : am_SN l D tc G bs own nm cc mL ret hh pc (a_putz ci i nx) := by
  refine ⟨fun G L st h r hr => ?_, ?_⟩
  · unfold a_putz at hr
    (repeat' split at hr) <;> first | contradiction | (unfold am_puts at hr; (repeat' split at hr) <;> first | contradiction | (simp only [cond_eq_ite] at hr; split at hr <;> first | contradiction | (have e9 := Option.some.inj (show some _ = some r from hr); subst e9; exact mo_set)))
  intro p e R s m args below meth c d sl0 O X L st h r hr po hLn
  obtain ⟨hx, hb, hmL, hrt, hlk, hown, hts, hmn, w, hst, hR, hno⟩ := X
  have hbs := w.2.2.2.2.2.2.2.2.2.2.2.2.2
  unfold a_putz at hr
  split at hr
  · rename_i x st
    split at hr
    · rename_i hx01
      unfold am_puts at hr
      split at hr
      · rename_i a st
        split at hr
        · rename_i c0 fs ha
          cases h1 : (Nat.beq c0 ci && Nat.blt i fs.length) with
          | false => rw [h1] at hr; contradiction
          | true =>
            rw [h1] at hr
            simp only [Bool.and_eq_true] at h1
            have e0 := Nat.eq_of_beq_eq_true h1.1
            subst e0
            have e9 := Option.some.inj (show some _ = some r from hr); subst e9
            subst hn
            exact kk_put hx hb w.1 hown hbs hts hC.2.2.1 hC.2.2.2.1 hC.2.2.2.2 hC.1 hi hC.2.1 (hts _ hl) (fun x q => hs.elim (fun e => by rw [e]; exact q) (fun e => u_same (hts _ e) x q)) hfin hty (by rcases hx01 with rfl | rfl <;> decide) (by rcases hx01 with rfl | rfl <;> decide) hd ha (Nat.le_of_ble_eq_true h1.2) po.2
        · contradiction
      · contradiction
    · contradiction
  · contradiction
theorem sn_putb {ci i index : Nat} {C ref : String} {T : u_T} {N : Nat} {ty0 : Nat → FieldType} (hd : decode cc pc = .ok (.putfield index, 3)) (hC : am_Cf ci C T N ty0) (hi : i < N) (hl : (Cond.fieldLink own index ref (T i).2.1 (T i).2.2.1) ∈ lw_all) (hs : ref = (T i).1 ∨ (Cond.sameField ref (T i).1 (T i).2.1 (T i).2.2.1) ∈ lw_all) (hfin : (T i).2.2.2 = false) (hty : parseFieldDescriptor (T i).2.2.1 = some .byte) (hn : pc + 3 = nx) : am_SN l D tc G bs own nm cc mL ret hh pc (a_putb ci i nx) := by
  refine ⟨fun G L st h r hr => ?_, ?_⟩
  · unfold a_putb at hr
    (repeat' split at hr) <;> first | contradiction | (unfold am_puts at hr; (repeat' split at hr) <;> first | contradiction | (simp only [cond_eq_ite] at hr; split at hr <;> first | contradiction | (have e9 := Option.some.inj (show some _ = some r from hr); subst e9; exact mo_set)))
  intro p e R s m args below meth c d sl0 O X L st h r hr po hLn
  obtain ⟨hx, hb, hmL, hrt, hlk, hown, hts, hmn, w, hst, hR, hno⟩ := X
  have hbs := w.2.2.2.2.2.2.2.2.2.2.2.2.2
  unfold a_putb at hr
  split at hr
  · rename_i x st
    split at hr
    · rename_i hx01
      unfold am_puts at hr
      split at hr
      · rename_i a st
        split at hr
        · rename_i c0 fs ha
          cases h1 : (Nat.beq c0 ci && Nat.blt i fs.length) with
          | false => rw [h1] at hr; contradiction
          | true =>
            rw [h1] at hr
            simp only [Bool.and_eq_true] at h1
            have e0 := Nat.eq_of_beq_eq_true h1.1
            subst e0
            have e9 := Option.some.inj (show some _ = some r from hr); subst e9
            subst hn
            exact kk_put hx hb w.1 hown hbs hts hC.2.2.1 hC.2.2.2.1 hC.2.2.2.2 hC.1 hi hC.2.1 (hts _ hl) (fun x q => hs.elim (fun e => by rw [e]; exact q) (fun e => u_same (hts _ e) x q)) hfin hty (by rcases hx01 with rfl | rfl <;> decide) (by rcases hx01 with rfl | rfl <;> decide) hd ha (Nat.le_of_ble_eq_true h1.2) po.2
        · contradiction
      · contradiction
    · contradiction
  · contradiction
theorem sn_puta {ci i index : Nat} {C ref : String} {T : u_T} {N : Nat} {ty0 : Nat → FieldType} (hd : decode cc pc = .ok (.putfield index, 3)) (hC : am_Cf ci C T N ty0) (hi : i < N) (hl : (Cond.fieldLink own index ref (T i).2.1 (T i).2.2.1) ∈ lw_all) (hs : ref = (T i).1 ∨ (Cond.sameField ref (T i).1 (T i).2.1 (T i).2.2.1) ∈ lw_all) (hfin : (T i).2.2.2 = false) {nm9 : String} (hty : parseFieldDescriptor (T i).2.2.1 = some (.object nm9) ∨ ∃ t9, parseFieldDescriptor (T i).2.2.1 = some (.array t9)) (hn : pc + 3 = nx) : am_SN l D tc G bs own nm cc mL ret hh pc (a_puta ci i nx) := by
  refine ⟨fun G L st h r hr => ?_, ?_⟩
  · unfold a_puta at hr
    (repeat' split at hr) <;> first | contradiction | (unfold am_puts at hr; (repeat' split at hr) <;> first | contradiction | (simp only [cond_eq_ite] at hr; split at hr <;> first | contradiction | (have e9 := Option.some.inj (show some _ = some r from hr); subst e9; exact mo_set)))
  intro p e R s m args below meth c d sl0 O X L st h r hr po hLn
  obtain ⟨hx, hb, hmL, hrt, hlk, hown, hts, hmn, w, hst, hR, hno⟩ := X
  have hbs := w.2.2.2.2.2.2.2.2.2.2.2.2.2
  obtain ⟨ty9, ht9, hf9⟩ : ∃ ty9, parseFieldDescriptor (T i).2.2.1 = some ty9 ∧ (∀ v : Value, v = .null ∨ (∃ a, v = .ref a) → narrow ty9 v = v ∧ fits ty9 v = true) := by
    rcases hty with q | ⟨t9, q⟩
    · exact ⟨_, q, fun v hv => by rcases hv with rfl | ⟨a, rfl⟩ <;> exact ⟨rfl, rfl⟩⟩
    · exact ⟨_, q, fun v hv => by rcases hv with rfl | ⟨a, rfl⟩ <;> exact ⟨rfl, rfl⟩⟩
  unfold a_puta at hr
  split at hr
  · rename_i x st
    unfold am_puts at hr
    split at hr
    · rename_i a st
      split at hr
      · rename_i c0 fs ha
        cases h1 : (Nat.beq c0 ci && Nat.blt i fs.length) with
        | false => rw [h1] at hr; contradiction
        | true =>
          rw [h1] at hr
          simp only [Bool.and_eq_true] at h1
          have e0 := Nat.eq_of_beq_eq_true h1.1
          subst e0
          have e9 := Option.some.inj (show some _ = some r from hr); subst e9
          subst hn
          exact kk_put hx hb w.1 hown hbs hts hC.2.2.1 hC.2.2.2.1 hC.2.2.2.2 hC.1 hi hC.2.1 (hts _ hl) (fun x q => hs.elim (fun e => by rw [e]; exact q) (fun e => u_same (hts _ e) x q)) hfin ht9 (hf9 _ (Or.inr ⟨x, rfl⟩)).1 (hf9 _ (Or.inr ⟨x, rfl⟩)).2 hd ha (Nat.le_of_ble_eq_true h1.2) po.2
      · contradiction
    · contradiction
  · rename_i st
    unfold am_puts at hr
    split at hr
    · rename_i a st
      split at hr
      · rename_i c0 fs ha
        cases h1 : (Nat.beq c0 ci && Nat.blt i fs.length) with
        | false => rw [h1] at hr; contradiction
        | true =>
          rw [h1] at hr
          simp only [Bool.and_eq_true] at h1
          have e0 := Nat.eq_of_beq_eq_true h1.1
          subst e0
          have e9 := Option.some.inj (show some _ = some r from hr); subst e9
          subst hn
          exact kk_put hx hb w.1 hown hbs hts hC.2.2.1 hC.2.2.2.1 hC.2.2.2.2 hC.1 hi hC.2.1 (hts _ hl) (fun x q => hs.elim (fun e => by rw [e]; exact q) (fun e => u_same (hts _ e) x q)) hfin ht9 (hf9 _ (Or.inl rfl)).1 (hf9 _ (Or.inl rfl)).2 hd ha (Nat.le_of_ble_eq_true h1.2) po.2
      · contradiction
    · contradiction
  · contradiction
theorem sn_putiN {ci i index : Nat} {C ref : String} {T : u_T} {N : Nat} {ty0 : Nat → FieldType} (hd : decode cc pc = .ok (.putfield index, 3)) (hC : am_Cf ci C T N ty0) (hi : i < N) {host : String} (hl : Cond.fieldLinkNest own index (T i).1 (T i).2.1 (T i).2.2.1 host ∈ am_nw) (hfin : (T i).2.2.2 = false) (hty : parseFieldDescriptor (T i).2.2.1 = some .int) (hn : pc + 3 = nx) : am_SN l D tc G bs own nm cc mL ret hh pc (a_puti ci i nx) := by
  refine ⟨fun G L st h r hr => ?_, ?_⟩
  · unfold a_puti at hr
    (repeat' split at hr) <;> first | contradiction | (unfold am_puts at hr; (repeat' split at hr) <;> first | contradiction | (simp only [cond_eq_ite] at hr; split at hr <;> first | contradiction | (have e9 := Option.some.inj (show some _ = some r from hr); subst e9; exact mo_set)))
  intro p e R s m args below meth c d sl0 O X L st h r hr po hLn
  obtain ⟨hx, hb, hmL, hrt, hlk, hown, hts, hmn, w, hst, hR, hno⟩ := X
  have hbs := w.2.2.2.2.2.2.2.2.2.2.2.2.2
  unfold a_puti at hr
  split at hr
  · rename_i x st
    unfold am_puts at hr
    split at hr
    · rename_i a st
      split at hr
      · rename_i c0 fs ha
        cases h1 : (Nat.beq c0 ci && Nat.blt i fs.length) with
        | false => rw [h1] at hr; contradiction
        | true =>
          rw [h1] at hr
          simp only [Bool.and_eq_true] at h1
          have e0 := Nat.eq_of_beq_eq_true h1.1
          subst e0
          have e9 := Option.some.inj (show some _ = some r from hr); subst e9
          subst hn
          exact kk_putN hx hb w.1 hown hbs hts hC.2.2.1 hC.2.2.2.1 hC.2.2.2.2 hC.1 hi hC.2.1 (va_Nw.use rfl (w.2.2.2.2.2.2.1 _ _ _ _ _ _ hl)) (fun x q => q) hfin hty rfl rfl hd ha (Nat.le_of_ble_eq_true h1.2) po.2
      · contradiction
    · contradiction
  · contradiction
theorem sn_putzN {ci i index : Nat} {C ref : String} {T : u_T} {N : Nat} {ty0 : Nat → FieldType} (hd : decode cc pc = .ok (.putfield index, 3)) (hC : am_Cf ci C T N ty0) (hi : i < N) {host : String} (hl : Cond.fieldLinkNest own index (T i).1 (T i).2.1 (T i).2.2.1 host ∈ am_nw) (hfin : (T i).2.2.2 = false) (hty : parseFieldDescriptor (T i).2.2.1 = some .boolean) (hn : pc + 3 = nx) : am_SN l D tc G bs own nm cc mL ret hh pc (a_putz ci i nx) := by
  refine ⟨fun G L st h r hr => ?_, ?_⟩
  · unfold a_putz at hr
    (repeat' split at hr) <;> first | contradiction | (unfold am_puts at hr; (repeat' split at hr) <;> first | contradiction | (simp only [cond_eq_ite] at hr; split at hr <;> first | contradiction | (have e9 := Option.some.inj (show some _ = some r from hr); subst e9; exact mo_set)))
  intro p e R s m args below meth c d sl0 O X L st h r hr po hLn
  obtain ⟨hx, hb, hmL, hrt, hlk, hown, hts, hmn, w, hst, hR, hno⟩ := X
  have hbs := w.2.2.2.2.2.2.2.2.2.2.2.2.2
  unfold a_putz at hr
  split at hr
  · rename_i x st
    split at hr
    · rename_i hx01
      unfold am_puts at hr
      split at hr
      · rename_i a st
        split at hr
        · rename_i c0 fs ha
          cases h1 : (Nat.beq c0 ci && Nat.blt i fs.length) with
          | false => rw [h1] at hr; contradiction
          | true =>
            rw [h1] at hr
            simp only [Bool.and_eq_true] at h1
            have e0 := Nat.eq_of_beq_eq_true h1.1
            subst e0
            have e9 := Option.some.inj (show some _ = some r from hr); subst e9
            subst hn
            exact kk_putN hx hb w.1 hown hbs hts hC.2.2.1 hC.2.2.2.1 hC.2.2.2.2 hC.1 hi hC.2.1 (va_Nw.use rfl (w.2.2.2.2.2.2.1 _ _ _ _ _ _ hl)) (fun x q => q) hfin hty (by rcases hx01 with rfl | rfl <;> decide) (by rcases hx01 with rfl | rfl <;> decide) hd ha (Nat.le_of_ble_eq_true h1.2) po.2
        · contradiction
      · contradiction
    · contradiction
  · contradiction
theorem sn_putbN {ci i index : Nat} {C ref : String} {T : u_T} {N : Nat} {ty0 : Nat → FieldType} (hd : decode cc pc = .ok (.putfield index, 3)) (hC : am_Cf ci C T N ty0) (hi : i < N) {host : String} (hl : Cond.fieldLinkNest own index (T i).1 (T i).2.1 (T i).2.2.1 host ∈ am_nw) (hfin : (T i).2.2.2 = false) (hty : parseFieldDescriptor (T i).2.2.1 = some .byte) (hn : pc + 3 = nx) : am_SN l D tc G bs own nm cc mL ret hh pc (a_putb ci i nx) := by
  refine ⟨fun G L st h r hr => ?_, ?_⟩
  · unfold a_putb at hr
    (repeat' split at hr) <;> first | contradiction | (unfold am_puts at hr; (repeat' split at hr) <;> first | contradiction | (simp only [cond_eq_ite] at hr; split at hr <;> first | contradiction | (have e9 := Option.some.inj (show some _ = some r from hr); subst e9; exact mo_set)))
  intro p e R s m args below meth c d sl0 O X L st h r hr po hLn
  obtain ⟨hx, hb, hmL, hrt, hlk, hown, hts, hmn, w, hst, hR, hno⟩ := X
  have hbs := w.2.2.2.2.2.2.2.2.2.2.2.2.2
  unfold a_putb at hr
  split at hr
  · rename_i x st
    split at hr
    · rename_i hx01
      unfold am_puts at hr
      split at hr
      · rename_i a st
        split at hr
        · rename_i c0 fs ha
          cases h1 : (Nat.beq c0 ci && Nat.blt i fs.length) with
          | false => rw [h1] at hr; contradiction
          | true =>
            rw [h1] at hr
            simp only [Bool.and_eq_true] at h1
            have e0 := Nat.eq_of_beq_eq_true h1.1
            subst e0
            have e9 := Option.some.inj (show some _ = some r from hr); subst e9
            subst hn
            exact kk_putN hx hb w.1 hown hbs hts hC.2.2.1 hC.2.2.2.1 hC.2.2.2.2 hC.1 hi hC.2.1 (va_Nw.use rfl (w.2.2.2.2.2.2.1 _ _ _ _ _ _ hl)) (fun x q => q) hfin hty (by rcases hx01 with rfl | rfl <;> decide) (by rcases hx01 with rfl | rfl <;> decide) hd ha (Nat.le_of_ble_eq_true h1.2) po.2
        · contradiction
      · contradiction
    · contradiction
  · contradiction
theorem sn_putaN {ci i index : Nat} {C ref : String} {T : u_T} {N : Nat} {ty0 : Nat → FieldType} (hd : decode cc pc = .ok (.putfield index, 3)) (hC : am_Cf ci C T N ty0) (hi : i < N) {host : String} (hl : Cond.fieldLinkNest own index (T i).1 (T i).2.1 (T i).2.2.1 host ∈ am_nw) (hfin : (T i).2.2.2 = false) {nm9 : String} (hty : parseFieldDescriptor (T i).2.2.1 = some (.object nm9) ∨ ∃ t9, parseFieldDescriptor (T i).2.2.1 = some (.array t9)) (hn : pc + 3 = nx) : am_SN l D tc G bs own nm cc mL ret hh pc (a_puta ci i nx) := by
  refine ⟨fun G L st h r hr => ?_, ?_⟩
  · unfold a_puta at hr
    (repeat' split at hr) <;> first | contradiction | (unfold am_puts at hr; (repeat' split at hr) <;> first | contradiction | (simp only [cond_eq_ite] at hr; split at hr <;> first | contradiction | (have e9 := Option.some.inj (show some _ = some r from hr); subst e9; exact mo_set)))
  intro p e R s m args below meth c d sl0 O X L st h r hr po hLn
  obtain ⟨hx, hb, hmL, hrt, hlk, hown, hts, hmn, w, hst, hR, hno⟩ := X
  have hbs := w.2.2.2.2.2.2.2.2.2.2.2.2.2
  obtain ⟨ty9, ht9, hf9⟩ : ∃ ty9, parseFieldDescriptor (T i).2.2.1 = some ty9 ∧ (∀ v : Value, v = .null ∨ (∃ a, v = .ref a) → narrow ty9 v = v ∧ fits ty9 v = true) := by
    rcases hty with q | ⟨t9, q⟩
    · exact ⟨_, q, fun v hv => by rcases hv with rfl | ⟨a, rfl⟩ <;> exact ⟨rfl, rfl⟩⟩
    · exact ⟨_, q, fun v hv => by rcases hv with rfl | ⟨a, rfl⟩ <;> exact ⟨rfl, rfl⟩⟩
  unfold a_puta at hr
  split at hr
  · rename_i x st
    unfold am_puts at hr
    split at hr
    · rename_i a st
      split at hr
      · rename_i c0 fs ha
        cases h1 : (Nat.beq c0 ci && Nat.blt i fs.length) with
        | false => rw [h1] at hr; contradiction
        | true =>
          rw [h1] at hr
          simp only [Bool.and_eq_true] at h1
          have e0 := Nat.eq_of_beq_eq_true h1.1
          subst e0
          have e9 := Option.some.inj (show some _ = some r from hr); subst e9
          subst hn
          exact kk_putN hx hb w.1 hown hbs hts hC.2.2.1 hC.2.2.2.1 hC.2.2.2.2 hC.1 hi hC.2.1 (va_Nw.use rfl (w.2.2.2.2.2.2.1 _ _ _ _ _ _ hl)) (fun x q => q) hfin ht9 (hf9 _ (Or.inr ⟨x, rfl⟩)).1 (hf9 _ (Or.inr ⟨x, rfl⟩)).2 hd ha (Nat.le_of_ble_eq_true h1.2) po.2
      · contradiction
    · contradiction
  · rename_i st
    unfold am_puts at hr
    split at hr
    · rename_i a st
      split at hr
      · rename_i c0 fs ha
        cases h1 : (Nat.beq c0 ci && Nat.blt i fs.length) with
        | false => rw [h1] at hr; contradiction
        | true =>
          rw [h1] at hr
          simp only [Bool.and_eq_true] at h1
          have e0 := Nat.eq_of_beq_eq_true h1.1
          subst e0
          have e9 := Option.some.inj (show some _ = some r from hr); subst e9
          subst hn
          exact kk_putN hx hb w.1 hown hbs hts hC.2.2.1 hC.2.2.2.1 hC.2.2.2.2 hC.1 hi hC.2.1 (va_Nw.use rfl (w.2.2.2.2.2.2.1 _ _ _ _ _ _ hl)) (fun x q => q) hfin ht9 (hf9 _ (Or.inl rfl)).1 (hf9 _ (Or.inl rfl)).2 hd ha (Nat.le_of_ble_eq_true h1.2) po.2
      · contradiction
    · contradiction
  · contradiction
theorem sn_putiF {ci i index : Nat} {C ref : String} {T : u_T} {N : Nat} {ty0 : Nat → FieldType} (hd : decode cc pc = .ok (.putfield index, 3)) (hC : am_Cf ci C T N ty0) (hi : i < N) (hl : (Cond.fieldLink own index (T i).1 (T i).2.1 (T i).2.2.1) ∈ lw_all) (hfin : (T i).2.2.2 = true) (hin2 : nm = "<init>") (hdecl : (T i).1 = own) (hty : parseFieldDescriptor (T i).2.2.1 = some .int) (hn : pc + 3 = nx) : am_SN l D tc G bs own nm cc mL ret hh pc (a_puti ci i nx) := by
  refine ⟨fun G L st h r hr => ?_, ?_⟩
  · unfold a_puti at hr
    (repeat' split at hr) <;> first | contradiction | (unfold am_puts at hr; (repeat' split at hr) <;> first | contradiction | (simp only [cond_eq_ite] at hr; split at hr <;> first | contradiction | (have e9 := Option.some.inj (show some _ = some r from hr); subst e9; exact mo_set)))
  intro p e R s m args below meth c d sl0 O X L st h r hr po hLn
  obtain ⟨hx, hb, hmL, hrt, hlk, hown, hts, hmn, w, hst, hR, hno⟩ := X
  have hbs := w.2.2.2.2.2.2.2.2.2.2.2.2.2
  unfold a_puti at hr
  split at hr
  · rename_i x st
    unfold am_puts at hr
    split at hr
    · rename_i a st
      split at hr
      · rename_i c0 fs ha
        cases h1 : (Nat.beq c0 ci && Nat.blt i fs.length) with
        | false => rw [h1] at hr; contradiction
        | true =>
          rw [h1] at hr
          simp only [Bool.and_eq_true] at h1
          have e0 := Nat.eq_of_beq_eq_true h1.1
          subst e0
          have e9 := Option.some.inj (show some _ = some r from hr); subst e9
          subst hn
          exact kk_putF hx hb w.1 hown hbs hts hC.2.2.1 hC.2.2.2.1 hC.2.2.2.2 hC.1 hi hC.2.1 (hts _ hl) (fun x q => q) hfin (hmn.trans hin2) hdecl hty rfl rfl hd ha (Nat.le_of_ble_eq_true h1.2) po.2
      · contradiction
    · contradiction
  · contradiction
theorem sn_putzF {ci i index : Nat} {C ref : String} {T : u_T} {N : Nat} {ty0 : Nat → FieldType} (hd : decode cc pc = .ok (.putfield index, 3)) (hC : am_Cf ci C T N ty0) (hi : i < N) (hl : (Cond.fieldLink own index (T i).1 (T i).2.1 (T i).2.2.1) ∈ lw_all) (hfin : (T i).2.2.2 = true) (hin2 : nm = "<init>") (hdecl : (T i).1 = own) (hty : parseFieldDescriptor (T i).2.2.1 = some .boolean) (hn : pc + 3 = nx) : am_SN l D tc G bs own nm cc mL ret hh pc (a_putz ci i nx) := by
  refine ⟨fun G L st h r hr => ?_, ?_⟩
  · unfold a_putz at hr
    (repeat' split at hr) <;> first | contradiction | (unfold am_puts at hr; (repeat' split at hr) <;> first | contradiction | (simp only [cond_eq_ite] at hr; split at hr <;> first | contradiction | (have e9 := Option.some.inj (show some _ = some r from hr); subst e9; exact mo_set)))
  intro p e R s m args below meth c d sl0 O X L st h r hr po hLn
  obtain ⟨hx, hb, hmL, hrt, hlk, hown, hts, hmn, w, hst, hR, hno⟩ := X
  have hbs := w.2.2.2.2.2.2.2.2.2.2.2.2.2
  unfold a_putz at hr
  split at hr
  · rename_i x st
    split at hr
    · rename_i hx01
      unfold am_puts at hr
      split at hr
      · rename_i a st
        split at hr
        · rename_i c0 fs ha
          cases h1 : (Nat.beq c0 ci && Nat.blt i fs.length) with
          | false => rw [h1] at hr; contradiction
          | true =>
            rw [h1] at hr
            simp only [Bool.and_eq_true] at h1
            have e0 := Nat.eq_of_beq_eq_true h1.1
            subst e0
            have e9 := Option.some.inj (show some _ = some r from hr); subst e9
            subst hn
            exact kk_putF hx hb w.1 hown hbs hts hC.2.2.1 hC.2.2.2.1 hC.2.2.2.2 hC.1 hi hC.2.1 (hts _ hl) (fun x q => q) hfin (hmn.trans hin2) hdecl hty (by rcases hx01 with rfl | rfl <;> decide) (by rcases hx01 with rfl | rfl <;> decide) hd ha (Nat.le_of_ble_eq_true h1.2) po.2
        · contradiction
      · contradiction
    · contradiction
  · contradiction
theorem sn_putbF {ci i index : Nat} {C ref : String} {T : u_T} {N : Nat} {ty0 : Nat → FieldType} (hd : decode cc pc = .ok (.putfield index, 3)) (hC : am_Cf ci C T N ty0) (hi : i < N) (hl : (Cond.fieldLink own index (T i).1 (T i).2.1 (T i).2.2.1) ∈ lw_all) (hfin : (T i).2.2.2 = true) (hin2 : nm = "<init>") (hdecl : (T i).1 = own) (hty : parseFieldDescriptor (T i).2.2.1 = some .byte) (hn : pc + 3 = nx) : am_SN l D tc G bs own nm cc mL ret hh pc (a_putb ci i nx) := by
  refine ⟨fun G L st h r hr => ?_, ?_⟩
  · unfold a_putb at hr
    (repeat' split at hr) <;> first | contradiction | (unfold am_puts at hr; (repeat' split at hr) <;> first | contradiction | (simp only [cond_eq_ite] at hr; split at hr <;> first | contradiction | (have e9 := Option.some.inj (show some _ = some r from hr); subst e9; exact mo_set)))
  intro p e R s m args below meth c d sl0 O X L st h r hr po hLn
  obtain ⟨hx, hb, hmL, hrt, hlk, hown, hts, hmn, w, hst, hR, hno⟩ := X
  have hbs := w.2.2.2.2.2.2.2.2.2.2.2.2.2
  unfold a_putb at hr
  split at hr
  · rename_i x st
    split at hr
    · rename_i hx01
      unfold am_puts at hr
      split at hr
      · rename_i a st
        split at hr
        · rename_i c0 fs ha
          cases h1 : (Nat.beq c0 ci && Nat.blt i fs.length) with
          | false => rw [h1] at hr; contradiction
          | true =>
            rw [h1] at hr
            simp only [Bool.and_eq_true] at h1
            have e0 := Nat.eq_of_beq_eq_true h1.1
            subst e0
            have e9 := Option.some.inj (show some _ = some r from hr); subst e9
            subst hn
            exact kk_putF hx hb w.1 hown hbs hts hC.2.2.1 hC.2.2.2.1 hC.2.2.2.2 hC.1 hi hC.2.1 (hts _ hl) (fun x q => q) hfin (hmn.trans hin2) hdecl hty (by rcases hx01 with rfl | rfl <;> decide) (by rcases hx01 with rfl | rfl <;> decide) hd ha (Nat.le_of_ble_eq_true h1.2) po.2
        · contradiction
      · contradiction
    · contradiction
  · contradiction
theorem sn_putaF {ci i index : Nat} {C ref : String} {T : u_T} {N : Nat} {ty0 : Nat → FieldType} (hd : decode cc pc = .ok (.putfield index, 3)) (hC : am_Cf ci C T N ty0) (hi : i < N) (hl : (Cond.fieldLink own index (T i).1 (T i).2.1 (T i).2.2.1) ∈ lw_all) (hfin : (T i).2.2.2 = true) (hin2 : nm = "<init>") (hdecl : (T i).1 = own) {nm9 : String} (hty : parseFieldDescriptor (T i).2.2.1 = some (.object nm9) ∨ ∃ t9, parseFieldDescriptor (T i).2.2.1 = some (.array t9)) (hn : pc + 3 = nx) : am_SN l D tc G bs own nm cc mL ret hh pc (a_puta ci i nx) := by
  refine ⟨fun G L st h r hr => ?_, ?_⟩
  · unfold a_puta at hr
    (repeat' split at hr) <;> first | contradiction | (unfold am_puts at hr; (repeat' split at hr) <;> first | contradiction | (simp only [cond_eq_ite] at hr; split at hr <;> first | contradiction | (have e9 := Option.some.inj (show some _ = some r from hr); subst e9; exact mo_set)))
  intro p e R s m args below meth c d sl0 O X L st h r hr po hLn
  obtain ⟨hx, hb, hmL, hrt, hlk, hown, hts, hmn, w, hst, hR, hno⟩ := X
  have hbs := w.2.2.2.2.2.2.2.2.2.2.2.2.2
  obtain ⟨ty9, ht9, hf9⟩ : ∃ ty9, parseFieldDescriptor (T i).2.2.1 = some ty9 ∧ (∀ v : Value, v = .null ∨ (∃ a, v = .ref a) → narrow ty9 v = v ∧ fits ty9 v = true) := by
    rcases hty with q | ⟨t9, q⟩
    · exact ⟨_, q, fun v hv => by rcases hv with rfl | ⟨a, rfl⟩ <;> exact ⟨rfl, rfl⟩⟩
    · exact ⟨_, q, fun v hv => by rcases hv with rfl | ⟨a, rfl⟩ <;> exact ⟨rfl, rfl⟩⟩
  unfold a_puta at hr
  split at hr
  · rename_i x st
    unfold am_puts at hr
    split at hr
    · rename_i a st
      split at hr
      · rename_i c0 fs ha
        cases h1 : (Nat.beq c0 ci && Nat.blt i fs.length) with
        | false => rw [h1] at hr; contradiction
        | true =>
          rw [h1] at hr
          simp only [Bool.and_eq_true] at h1
          have e0 := Nat.eq_of_beq_eq_true h1.1
          subst e0
          have e9 := Option.some.inj (show some _ = some r from hr); subst e9
          subst hn
          exact kk_putF hx hb w.1 hown hbs hts hC.2.2.1 hC.2.2.2.1 hC.2.2.2.2 hC.1 hi hC.2.1 (hts _ hl) (fun x q => q) hfin (hmn.trans hin2) hdecl ht9 (hf9 _ (Or.inr ⟨x, rfl⟩)).1 (hf9 _ (Or.inr ⟨x, rfl⟩)).2 hd ha (Nat.le_of_ble_eq_true h1.2) po.2
      · contradiction
    · contradiction
  · rename_i st
    unfold am_puts at hr
    split at hr
    · rename_i a st
      split at hr
      · rename_i c0 fs ha
        cases h1 : (Nat.beq c0 ci && Nat.blt i fs.length) with
        | false => rw [h1] at hr; contradiction
        | true =>
          rw [h1] at hr
          simp only [Bool.and_eq_true] at h1
          have e0 := Nat.eq_of_beq_eq_true h1.1
          subst e0
          have e9 := Option.some.inj (show some _ = some r from hr); subst e9
          subst hn
          exact kk_putF hx hb w.1 hown hbs hts hC.2.2.1 hC.2.2.2.1 hC.2.2.2.2 hC.1 hi hC.2.1 (hts _ hl) (fun x q => q) hfin (hmn.trans hin2) hdecl ht9 (hf9 _ (Or.inl rfl)).1 (hf9 _ (Or.inl rfl)).2 hd ha (Nat.le_of_ble_eq_true h1.2) po.2
      · contradiction
    · contradiction
  · contradiction
end
