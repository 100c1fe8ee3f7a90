/-! SOUND, the sixth part: am_SN of calls, returns, throws; printed by gen/sn4.py -/
set_option maxRecDepth 100000
section
variable {l : Launch} {D : va_G} {tc : Nat → ClassId} {G : am_G} {bs : Nat} {own nm : String} {cc : ByteArray} {mL : Nat} {ret : Option FieldType} {hh : List (Nat × Nat × Nat × Nat × Nat)} {pc nx : Nat}
theorem am_ca {s : State} {ci : Nat} {C : String} {T : u_T} {N : Nat} (w : am_WS D tc G bs s) (hc : am_cl[ci]? = some (C, T, N)) : ∃ cC, ClassAt s C cC := by
  obtain ⟨hS, hfc, kC, hkC, hkind⟩ := w.1.1 ci _ hc
  exact ⟨_, hfc, kC, hkC, hkind⟩
theorem sn_invS {index k n maxL : Nat} {y : MethodName} {bytes : ByteArray} {rt : Option FieldType} (hd : decode cc pc = .ok (.invokestatic index, 3)) (hJ : am_J k = (y, ws_ y bytes maxL rt)) (hT : GoodIn lw_all (va_wsS own index y (ws_ y bytes maxL rt))) (hy : y.cls ≠ "java/lang/invoke/MethodHandle" ∧ y.cls ≠ "java/lang/invoke/VarHandle" ∧ (parseMethodDescriptor y.desc).map (fun d => d.parameters.length) = some n) (hmx : maxL ≤ 21) (hal : n ≤ (am_P k).2.1) (hn : pc + 3 = nx) : am_SN l D tc G bs own nm cc mL ret hh pc (a_inv k n nx) := by
  refine ⟨fun G L st h r hr => ?_, ?_⟩
  · unfold a_inv at hr
    split at hr
    · rename_i As st hpop
      cases h1 : (Nat.ble (am_wd st) 8 && am_1s As) with
      | false => rw [h1] at hr; contradiction
      | true =>
        rw [h1] at hr
        have e9 := Option.some.inj (show some _ = some r from hr); subst e9
        simp only [Bool.and_eq_true] at h1
        exact ⟨rfl, h1.2, by rw [(am_popd hpop).1]; exact hal⟩
    · contradiction
  intro p e R s m args below meth c d sl0 O X L st h r hr po hLn
  obtain ⟨hx, hb, hmL, hrt, hlk, hown, hts, hmn, w, hst, hR, hno⟩ := X
  have hbs := w.2.2.2.2.2.2.2.2.2.2.2.2.2
  unfold a_inv at hr
  split at hr
  · rename_i As st hpop
    cases h1 : (Nat.ble (am_wd st) 8 && am_1s As) with
    | false => rw [h1] at hr; contradiction
    | true =>
      rw [h1] at hr
      have e9 := Option.some.inj (show some _ = some r from hr); subst e9; subst hn
      simp only [Bool.and_eq_true] at h1
      have h8 : am_wd st ≤ 8 := Nat.le_of_ble_eq_true h1.1
      obtain ⟨d', O', q1, q2, q3, q4, q5⟩ := po
      obtain ⟨f1, f2⟩ := am_popd hpop
      subst f2
      rw [hJ] at q2
      exact kk_invS hx hb hown hts w hT hy f1 hmx q1 hR hd h8 q2 q3.1 q3.2 q4 q5
  · contradiction
theorem sn_invSX {index k n maxL : Nat} {y : MethodName} {bytes : ByteArray} {rt : Option FieldType} {hq : List (Nat × Nat × Nat × Nat)} (hd : decode cc pc = .ok (.invokestatic index, 3)) (hJ : am_J k = (y, wsW_ y bytes maxL rt hq)) (hT : GoodIn lw_all (va_wsS own index y (wsW_ y bytes maxL rt hq))) (hy : y.cls ≠ "java/lang/invoke/MethodHandle" ∧ y.cls ≠ "java/lang/invoke/VarHandle" ∧ (parseMethodDescriptor y.desc).map (fun d => d.parameters.length) = some n) (hmx : maxL ≤ 21) (hal : n ≤ (am_P k).2.1) (hn : pc + 3 = nx) : am_SN l D tc G bs own nm cc mL ret hh pc (a_inv k n nx) := by
  refine ⟨fun G L st h r hr => ?_, ?_⟩
  · unfold a_inv at hr
    split at hr
    · rename_i As st hpop
      cases h1 : (Nat.ble (am_wd st) 8 && am_1s As) with
      | false => rw [h1] at hr; contradiction
      | true =>
        rw [h1] at hr
        have e9 := Option.some.inj (show some _ = some r from hr); subst e9
        simp only [Bool.and_eq_true] at h1
        exact ⟨rfl, h1.2, by rw [(am_popd hpop).1]; exact hal⟩
    · contradiction
  intro p e R s m args below meth c d sl0 O X L st h r hr po hLn
  obtain ⟨hx, hb, hmL, hrt, hlk, hown, hts, hmn, w, hst, hR, hno⟩ := X
  have hbs := w.2.2.2.2.2.2.2.2.2.2.2.2.2
  unfold a_inv at hr
  split at hr
  · rename_i As st hpop
    cases h1 : (Nat.ble (am_wd st) 8 && am_1s As) with
    | false => rw [h1] at hr; contradiction
    | true =>
      rw [h1] at hr
      have e9 := Option.some.inj (show some _ = some r from hr); subst e9; subst hn
      simp only [Bool.and_eq_true] at h1
      have h8 : am_wd st ≤ 8 := Nat.le_of_ble_eq_true h1.1
      obtain ⟨d', O', q1, q2, q3, q4, q5⟩ := po
      obtain ⟨f1, f2⟩ := am_popd hpop
      subst f2
      rw [hJ] at q2
      exact kk_invSX hx hb hown hts w hT hy f1 hmx q1 hR hd h8 q2 q3.1 q3.2 q4 q5
  · contradiction
theorem sn_invSN {index k n maxL : Nat} {y : MethodName} {bytes : ByteArray} {rt : Option FieldType} (hd : decode cc pc = .ok (.invokestatic index, 3)) (hJ : am_J k = (y, ws_ y bytes maxL rt)) {host : String} (hG : GoodIn lw_all (ws_ y bytes maxL rt)) (hini : Cond.initialized y.cls ∈ lw_all) (hl : Cond.methodLinkNest own index y host ∈ am_nw) (hs : Cond.static y ∈ lw_all) (hy : y.cls ≠ "java/lang/invoke/MethodHandle" ∧ y.cls ≠ "java/lang/invoke/VarHandle" ∧ (parseMethodDescriptor y.desc).map (fun d => d.parameters.length) = some n) (hmx : maxL ≤ 21) (hal : n ≤ (am_P k).2.1) (hn : pc + 3 = nx) : am_SN l D tc G bs own nm cc mL ret hh pc (a_inv k n nx) := by
  refine ⟨fun G L st h r hr => ?_, ?_⟩
  · unfold a_inv at hr
    split at hr
    · rename_i As st hpop
      cases h1 : (Nat.ble (am_wd st) 8 && am_1s As) with
      | false => rw [h1] at hr; contradiction
      | true =>
        rw [h1] at hr
        have e9 := Option.some.inj (show some _ = some r from hr); subst e9
        simp only [Bool.and_eq_true] at h1
        exact ⟨rfl, h1.2, by rw [(am_popd hpop).1]; exact hal⟩
    · contradiction
  intro p e R s m args below meth c d sl0 O X L st h r hr po hLn
  obtain ⟨hx, hb, hmL, hrt, hlk, hown, hts, hmn, w, hst, hR, hno⟩ := X
  have hbs := w.2.2.2.2.2.2.2.2.2.2.2.2.2
  unfold a_inv at hr
  split at hr
  · rename_i As st hpop
    cases h1 : (Nat.ble (am_wd st) 8 && am_1s As) with
    | false => rw [h1] at hr; contradiction
    | true =>
      rw [h1] at hr
      have e9 := Option.some.inj (show some _ = some r from hr); subst e9; subst hn
      simp only [Bool.and_eq_true] at h1
      have h8 : am_wd st ≤ 8 := Nat.le_of_ble_eq_true h1.1
      obtain ⟨d', O', q1, q2, q3, q4, q5⟩ := po
      obtain ⟨f1, f2⟩ := am_popd hpop
      subst f2
      rw [hJ] at q2
      exact kk_invSN hx hb hown hts w hG hini hl hs hy f1 hmx q1 hR hd h8 q2 q3.1 q3.2 q4 q5
  · contradiction
theorem sn_invI {index k n maxL : Nat} {y : MethodName} {bytes : ByteArray} (hd : decode cc pc = .ok (.invokespecial index, 3)) (hJ : am_J k = (y, ws_ y bytes maxL none)) (hG : GoodIn lw_all (ws_ y bytes maxL none)) (hini : Cond.initialized y.cls ∈ lw_all) (hl : Cond.methodLink own index y ∈ lw_all) (hin : Cond.instanceMethod y ∈ lw_all) (hy1 : y.name = "<init>") (hy : y.cls ≠ "java/lang/invoke/MethodHandle" ∧ y.cls ≠ "java/lang/invoke/VarHandle" ∧ (parseMethodDescriptor y.desc).map (fun d => d.parameters.length) = some n) (hmx : maxL ≤ 21) (hal : n + 1 ≤ (am_P k).2.1) (hn : pc + 3 = nx) : am_SN l D tc G bs own nm cc mL ret hh pc (a_invi k n nx) := by
  refine ⟨fun G L st h r hr => ?_, ?_⟩
  · unfold a_invi at hr
    split at hr
    · rename_i As a st hpop
      cases h1 : (Nat.ble (am_wd st) 8 && am_1s As) with
      | false => rw [h1] at hr; contradiction
      | true =>
        rw [h1] at hr
        have e9 := Option.some.inj (show some _ = some r from hr); subst e9
        simp only [Bool.and_eq_true] at h1
        exact ⟨rfl, h1.2, by rw [List.length_cons]; rw [(am_popd hpop).1]; exact hal⟩
    · contradiction
  intro p e R s m args below meth c d sl0 O X L st h r hr po hLn
  obtain ⟨hx, hb, hmL, hrt, hlk, hown, hts, hmn, w, hst, hR, hno⟩ := X
  have hbs := w.2.2.2.2.2.2.2.2.2.2.2.2.2
  unfold a_invi at hr
  split at hr
  · rename_i As a st hpop
    cases h1 : (Nat.ble (am_wd st) 8 && am_1s As) with
    | false => rw [h1] at hr; contradiction
    | true =>
      rw [h1] at hr
      have e9 := Option.some.inj (show some _ = some r from hr); subst e9; subst hn
      simp only [Bool.and_eq_true] at h1
      have h8 : am_wd st ≤ 8 := Nat.le_of_ble_eq_true h1.1
      obtain ⟨d', O', q1, q2, q3, q4, q5⟩ := po
      obtain ⟨f1, f2⟩ := am_popd hpop
      subst f2
      rw [hJ] at q2
      exact kk_invI hx hb hown hts w hG hini hl hin hy1 hy f1 hmx q1 hR hd h8 q2 q3.1 q3.2 q4 q5
  · contradiction
theorem sn_invIN {index k n maxL : Nat} {y : MethodName} {bytes : ByteArray} (hd : decode cc pc = .ok (.invokespecial index, 3)) (hJ : am_J k = (y, ws_ y bytes maxL none)) {host : String} (hG : GoodIn lw_all (ws_ y bytes maxL none)) (hini : Cond.initialized y.cls ∈ lw_all) (hl : Cond.methodLinkNest own index y host ∈ am_nw) (hin : Cond.instanceMethod y ∈ lw_all) (hy1 : y.name = "<init>") (hy : y.cls ≠ "java/lang/invoke/MethodHandle" ∧ y.cls ≠ "java/lang/invoke/VarHandle" ∧ (parseMethodDescriptor y.desc).map (fun d => d.parameters.length) = some n) (hmx : maxL ≤ 21) (hal : n + 1 ≤ (am_P k).2.1) (hn : pc + 3 = nx) : am_SN l D tc G bs own nm cc mL ret hh pc (a_invi k n nx) := by
  refine ⟨fun G L st h r hr => ?_, ?_⟩
  · unfold a_invi at hr
    split at hr
    · rename_i As a st hpop
      cases h1 : (Nat.ble (am_wd st) 8 && am_1s As) with
      | false => rw [h1] at hr; contradiction
      | true =>
        rw [h1] at hr
        have e9 := Option.some.inj (show some _ = some r from hr); subst e9
        simp only [Bool.and_eq_true] at h1
        exact ⟨rfl, h1.2, by rw [List.length_cons]; rw [(am_popd hpop).1]; exact hal⟩
    · contradiction
  intro p e R s m args below meth c d sl0 O X L st h r hr po hLn
  obtain ⟨hx, hb, hmL, hrt, hlk, hown, hts, hmn, w, hst, hR, hno⟩ := X
  have hbs := w.2.2.2.2.2.2.2.2.2.2.2.2.2
  unfold a_invi at hr
  split at hr
  · rename_i As a st hpop
    cases h1 : (Nat.ble (am_wd st) 8 && am_1s As) with
    | false => rw [h1] at hr; contradiction
    | true =>
      rw [h1] at hr
      have e9 := Option.some.inj (show some _ = some r from hr); subst e9; subst hn
      simp only [Bool.and_eq_true] at h1
      have h8 : am_wd st ≤ 8 := Nat.le_of_ble_eq_true h1.1
      obtain ⟨d', O', q1, q2, q3, q4, q5⟩ := po
      obtain ⟨f1, f2⟩ := am_popd hpop
      subst f2
      rw [hJ] at q2
      exact kk_invIN hx hb hown hts w hG hini hl hin hy1 hy f1 hmx q1 hR hd h8 q2 q3.1 q3.2 q4 q5
  · contradiction
theorem sn_invV {index k n maxL : Nat} {y : MethodName} {bytes : ByteArray} {rt : Option FieldType} {ci : Nat} {C : String} (hd : decode cc pc = .ok (.invokevirtual index, 3)) (hJ : am_J k = (y, ws_ y bytes maxL rt)) (hC : am_nm ci = C) (hci : ci < 100) (hT : GoodIn lw_all (wsV own index C y (ws_ y bytes maxL rt))) (hy : y.cls = C ∧ y.cls ≠ "java/lang/invoke/MethodHandle" ∧ y.cls ≠ "java/lang/invoke/VarHandle" ∧ (parseMethodDescriptor y.desc).map (fun d => d.parameters.length) = some n) (hmx : maxL ≤ 21) (hal : n + 1 ≤ (am_P k).2.1) (hn : pc + 3 = nx) : am_SN l D tc G bs own nm cc mL ret hh pc (a_invv [(ci, k)] n nx) := by
  refine ⟨fun G L st h r hr => ?_, ?_⟩
  · unfold a_invv at hr
    split at hr
    · rename_i As a st hpop
      split at hr
      · rename_i c0 fs ha
        split at hr
        · rename_i k9 hk9
          cases h1 : (Nat.ble (am_wd st) 8 && am_1s As) with
          | false => rw [h1] at hr; contradiction
          | true =>
          rw [h1] at hr
          have e9 := Option.some.inj (show some _ = some r from hr); subst e9
          simp only [Bool.and_eq_true] at h1
          obtain ⟨d9, m9, q9⟩ := am_dp_mem hk9
          refine ⟨rfl, h1.2, ?_⟩
          rw [List.length_cons, (am_popd hpop).1]
          have e8 : d9 = ci ∧ k9 = k := by simpa using m9
          rw [e8.2]; exact hal
        · contradiction
      · contradiction
    · contradiction
  intro p e R s m args below meth c d sl0 O X L st h r hr po hLn
  obtain ⟨hx, hb, hmL, hrt, hlk, hown, hts, hmn, w, hst, hR, hno⟩ := X
  have hbs := w.2.2.2.2.2.2.2.2.2.2.2.2.2
  unfold a_invv at hr
  split at hr
  · rename_i As a st hpop
    split at hr
    · rename_i c0 fs ha
      split at hr
      · rename_i k9 hk9
        cases h1 : (Nat.ble (am_wd st) 8 && am_1s As) with
        | false => rw [h1] at hr; contradiction
        | true =>
        rw [h1] at hr
        have e9 := Option.some.inj (show some _ = some r from hr); subst e9; subst hn
        simp only [Bool.and_eq_true] at h1
        have h8 : am_wd st ≤ 8 := Nat.le_of_ble_eq_true h1.1
        obtain ⟨d', O', q1, q2, q3, q4, q5⟩ := po
        obtain ⟨f1, f2⟩ := am_popd hpop
        subst f2
        obtain ⟨d9, m9, q9⟩ := am_dp_mem hk9
        have e8 : d9 = ci ∧ k9 = k := by simpa using m9
        obtain ⟨rfl, rfl⟩ := e8
        rw [hJ] at q2
        have hz := am_cc_z q9 hci
        exact kk_invV hx hb hown hts w ha (by rw [hz]; exact hC) hT hy f1 hmx q1 hR hd h8 q2 q3.1 q3.2 q4 q5
      · contradiction
    · contradiction
  · contradiction
theorem sn_invVX {index k n maxL : Nat} {y : MethodName} {bytes : ByteArray} {rt : Option FieldType} {ci : Nat} {C : String} {hq : List (Nat × Nat × Nat × Nat)} (hd : decode cc pc = .ok (.invokevirtual index, 3)) (hJ : am_J k = (y, wsW_ y bytes maxL rt hq)) (hC : am_nm ci = C) (hci : ci < 100) (hT : GoodIn lw_all (wsV own index C y (wsW_ y bytes maxL rt hq))) (hy : y.cls = C ∧ y.cls ≠ "java/lang/invoke/MethodHandle" ∧ y.cls ≠ "java/lang/invoke/VarHandle" ∧ (parseMethodDescriptor y.desc).map (fun d => d.parameters.length) = some n) (hmx : maxL ≤ 21) (hal : n + 1 ≤ (am_P k).2.1) (hn : pc + 3 = nx) : am_SN l D tc G bs own nm cc mL ret hh pc (a_invv [(ci, k)] n nx) := by
  refine ⟨fun G L st h r hr => ?_, ?_⟩
  · unfold a_invv at hr
    split at hr
    · rename_i As a st hpop
      split at hr
      · rename_i c0 fs ha
        split at hr
        · rename_i k9 hk9
          cases h1 : (Nat.ble (am_wd st) 8 && am_1s As) with
          | false => rw [h1] at hr; contradiction
          | true =>
          rw [h1] at hr
          have e9 := Option.some.inj (show some _ = some r from hr); subst e9
          simp only [Bool.and_eq_true] at h1
          obtain ⟨d9, m9, q9⟩ := am_dp_mem hk9
          refine ⟨rfl, h1.2, ?_⟩
          rw [List.length_cons, (am_popd hpop).1]
          have e8 : d9 = ci ∧ k9 = k := by simpa using m9
          rw [e8.2]; exact hal
        · contradiction
      · contradiction
    · contradiction
  intro p e R s m args below meth c d sl0 O X L st h r hr po hLn
  obtain ⟨hx, hb, hmL, hrt, hlk, hown, hts, hmn, w, hst, hR, hno⟩ := X
  have hbs := w.2.2.2.2.2.2.2.2.2.2.2.2.2
  unfold a_invv at hr
  split at hr
  · rename_i As a st hpop
    split at hr
    · rename_i c0 fs ha
      split at hr
      · rename_i k9 hk9
        cases h1 : (Nat.ble (am_wd st) 8 && am_1s As) with
        | false => rw [h1] at hr; contradiction
        | true =>
        rw [h1] at hr
        have e9 := Option.some.inj (show some _ = some r from hr); subst e9; subst hn
        simp only [Bool.and_eq_true] at h1
        have h8 : am_wd st ≤ 8 := Nat.le_of_ble_eq_true h1.1
        obtain ⟨d', O', q1, q2, q3, q4, q5⟩ := po
        obtain ⟨f1, f2⟩ := am_popd hpop
        subst f2
        obtain ⟨d9, m9, q9⟩ := am_dp_mem hk9
        have e8 : d9 = ci ∧ k9 = k := by simpa using m9
        obtain ⟨rfl, rfl⟩ := e8
        rw [hJ] at q2
        have hz := am_cc_z q9 hci
        exact kk_invVX hx hb hown hts w ha (by rw [hz]; exact hC) hT hy f1 hmx q1 hR hd h8 q2 q3.1 q3.2 q4 q5
      · contradiction
    · contradiction
  · contradiction
theorem sn_invVN {index k n maxL : Nat} {y : MethodName} {bytes : ByteArray} {rt : Option FieldType} {ci : Nat} {C : String} (hd : decode cc pc = .ok (.invokevirtual index, 3)) (hJ : am_J k = (y, ws_ y bytes maxL rt)) (hC : am_nm ci = C) (hci : ci < 100) {host : String} (hG : GoodIn lw_all (ws_ y bytes maxL rt)) (hini : Cond.initialized y.cls ∈ lw_all) (hl : Cond.methodLinkNest own index y host ∈ am_nw) (hin : Cond.instanceMethod y ∈ lw_all) (hse : Cond.selects C y y ∈ lw_all) (hy : y.cls ≠ "java/lang/invoke/MethodHandle" ∧ y.cls ≠ "java/lang/invoke/VarHandle" ∧ (parseMethodDescriptor y.desc).map (fun d => d.parameters.length) = some n) (hmx : maxL ≤ 21) (hal : n + 1 ≤ (am_P k).2.1) (hn : pc + 3 = nx) : am_SN l D tc G bs own nm cc mL ret hh pc (a_invv [(ci, k)] n nx) := by
  refine ⟨fun G L st h r hr => ?_, ?_⟩
  · unfold a_invv at hr
    split at hr
    · rename_i As a st hpop
      split at hr
      · rename_i c0 fs ha
        split at hr
        · rename_i k9 hk9
          cases h1 : (Nat.ble (am_wd st) 8 && am_1s As) with
          | false => rw [h1] at hr; contradiction
          | true =>
          rw [h1] at hr
          have e9 := Option.some.inj (show some _ = some r from hr); subst e9
          simp only [Bool.and_eq_true] at h1
          obtain ⟨d9, m9, q9⟩ := am_dp_mem hk9
          refine ⟨rfl, h1.2, ?_⟩
          rw [List.length_cons, (am_popd hpop).1]
          have e8 : d9 = ci ∧ k9 = k := by simpa using m9
          rw [e8.2]; exact hal
        · contradiction
      · contradiction
    · contradiction
  intro p e R s m args below meth c d sl0 O X L st h r hr po hLn
  obtain ⟨hx, hb, hmL, hrt, hlk, hown, hts, hmn, w, hst, hR, hno⟩ := X
  have hbs := w.2.2.2.2.2.2.2.2.2.2.2.2.2
  unfold a_invv at hr
  split at hr
  · rename_i As a st hpop
    split at hr
    · rename_i c0 fs ha
      split at hr
      · rename_i k9 hk9
        cases h1 : (Nat.ble (am_wd st) 8 && am_1s As) with
        | false => rw [h1] at hr; contradiction
        | true =>
        rw [h1] at hr
        have e9 := Option.some.inj (show some _ = some r from hr); subst e9; subst hn
        simp only [Bool.and_eq_true] at h1
        have h8 : am_wd st ≤ 8 := Nat.le_of_ble_eq_true h1.1
        obtain ⟨d', O', q1, q2, q3, q4, q5⟩ := po
        obtain ⟨f1, f2⟩ := am_popd hpop
        subst f2
        obtain ⟨d9, m9, q9⟩ := am_dp_mem hk9
        have e8 : d9 = ci ∧ k9 = k := by simpa using m9
        obtain ⟨rfl, rfl⟩ := e8
        rw [hJ] at q2
        have hz := am_cc_z q9 hci
        exact kk_invVN hx hb hown hts w ha (by rw [hz]; exact hC) hG hini hl hin hse hy f1 hmx q1 hR hd h8 q2 q3.1 q3.2 q4 q5
      · contradiction
    · contradiction
  · contradiction
theorem sn_invU {index k n maxL : Nat} {y : MethodName} {bytes : ByteArray} {rt : Option FieldType} {ci : Nat} {C : String} {x : MethodName} {owner : String} (hd : decode cc pc = .ok (.invokevirtual index, 3)) (hJ : am_J k = (y, ws_ y bytes maxL rt)) (hC : am_nm ci = C) (hci : ci < 100) (hT : GoodIn lw_all (va_wsU own index C owner x y (ws_ y bytes maxL rt))) (hyx : y = ⟨owner, x.name, x.desc⟩) (hy : owner ≠ "java/lang/invoke/MethodHandle" ∧ owner ≠ "java/lang/invoke/VarHandle" ∧ (parseMethodDescriptor x.desc).map (fun d => d.parameters.length) = some n) (hmx : maxL ≤ 21) (hal : n + 1 ≤ (am_P k).2.1) (hn : pc + 3 = nx) : am_SN l D tc G bs own nm cc mL ret hh pc (a_invv [(ci, k)] n nx) := by
  refine ⟨fun G L st h r hr => ?_, ?_⟩
  · unfold a_invv at hr
    split at hr
    · rename_i As a st hpop
      split at hr
      · rename_i c0 fs ha
        split at hr
        · rename_i k9 hk9
          cases h1 : (Nat.ble (am_wd st) 8 && am_1s As) with
          | false => rw [h1] at hr; contradiction
          | true =>
          rw [h1] at hr
          have e9 := Option.some.inj (show some _ = some r from hr); subst e9
          simp only [Bool.and_eq_true] at h1
          obtain ⟨d9, m9, q9⟩ := am_dp_mem hk9
          refine ⟨rfl, h1.2, ?_⟩
          rw [List.length_cons, (am_popd hpop).1]
          have e8 : d9 = ci ∧ k9 = k := by simpa using m9
          rw [e8.2]; exact hal
        · contradiction
      · contradiction
    · contradiction
  intro p e R s m args below meth c d sl0 O X L st h r hr po hLn
  obtain ⟨hx, hb, hmL, hrt, hlk, hown, hts, hmn, w, hst, hR, hno⟩ := X
  have hbs := w.2.2.2.2.2.2.2.2.2.2.2.2.2
  unfold a_invv at hr
  split at hr
  · rename_i As a st hpop
    split at hr
    · rename_i c0 fs ha
      split at hr
      · rename_i k9 hk9
        cases h1 : (Nat.ble (am_wd st) 8 && am_1s As) with
        | false => rw [h1] at hr; contradiction
        | true =>
        rw [h1] at hr
        have e9 := Option.some.inj (show some _ = some r from hr); subst e9; subst hn
        simp only [Bool.and_eq_true] at h1
        have h8 : am_wd st ≤ 8 := Nat.le_of_ble_eq_true h1.1
        obtain ⟨d', O', q1, q2, q3, q4, q5⟩ := po
        obtain ⟨f1, f2⟩ := am_popd hpop
        subst f2
        obtain ⟨d9, m9, q9⟩ := am_dp_mem hk9
        have e8 : d9 = ci ∧ k9 = k := by simpa using m9
        obtain ⟨rfl, rfl⟩ := e8
        rw [hJ] at q2
        have hz := am_cc_z q9 hci
        exact kk_invU hx hb hown hts w ha (by rw [hz]; exact hC) hT hyx hy f1 hmx q1 hR hd h8 q2 q3.1 q3.2 q4 q5
      · contradiction
    · contradiction
  · contradiction
theorem sn_invSU {index k n maxL : Nat} {y : MethodName} {bytes : ByteArray} {rt : Option FieldType} {ci : Nat} {C : String} {T : u_T} {N : Nat} (hd : decode cc pc = .ok (.invokespecial index, 3)) (hJ : am_J k = (y, ws_ y bytes maxL rt)) (hC : am_nm ci = C) (hci : ci < 100) (hcl : am_cl[ci]? = some (C, T, N)) (hT : GoodIn lw_all (va_wsSU own index y (ws_ y bytes maxL rt))) (hy : y.name ≠ "<init>" ∧ (parseMethodDescriptor y.desc).map (fun d => d.parameters.length) = some n) (hmx : maxL ≤ 21) (hal : n + 1 ≤ (am_P k).2.1) (hn : pc + 3 = nx) : am_SN l D tc G bs own nm cc mL ret hh pc (a_invv [(ci, k)] n nx) := by
  refine ⟨fun G L st h r hr => ?_, ?_⟩
  · unfold a_invv at hr
    split at hr
    · rename_i As a st hpop
      split at hr
      · rename_i c0 fs ha
        split at hr
        · rename_i k9 hk9
          cases h1 : (Nat.ble (am_wd st) 8 && am_1s As) with
          | false => rw [h1] at hr; contradiction
          | true =>
          rw [h1] at hr
          have e9 := Option.some.inj (show some _ = some r from hr); subst e9
          simp only [Bool.and_eq_true] at h1
          obtain ⟨d9, m9, q9⟩ := am_dp_mem hk9
          refine ⟨rfl, h1.2, ?_⟩
          rw [List.length_cons, (am_popd hpop).1]
          have e8 : d9 = ci ∧ k9 = k := by simpa using m9
          rw [e8.2]; exact hal
        · contradiction
      · contradiction
    · contradiction
  intro p e R s m args below meth c d sl0 O X L st h r hr po hLn
  obtain ⟨hx, hb, hmL, hrt, hlk, hown, hts, hmn, w, hst, hR, hno⟩ := X
  have hbs := w.2.2.2.2.2.2.2.2.2.2.2.2.2
  unfold a_invv at hr
  split at hr
  · rename_i As a st hpop
    split at hr
    · rename_i c0 fs ha
      split at hr
      · rename_i k9 hk9
        cases h1 : (Nat.ble (am_wd st) 8 && am_1s As) with
        | false => rw [h1] at hr; contradiction
        | true =>
        rw [h1] at hr
        have e9 := Option.some.inj (show some _ = some r from hr); subst e9; subst hn
        simp only [Bool.and_eq_true] at h1
        have h8 : am_wd st ≤ 8 := Nat.le_of_ble_eq_true h1.1
        obtain ⟨d', O', q1, q2, q3, q4, q5⟩ := po
        obtain ⟨f1, f2⟩ := am_popd hpop
        subst f2
        obtain ⟨d9, m9, q9⟩ := am_dp_mem hk9
        have e8 : d9 = ci ∧ k9 = k := by simpa using m9
        obtain ⟨rfl, rfl⟩ := e8
        rw [hJ] at q2
        have hz := am_cc_z q9 hci
        obtain ⟨cC, hat⟩ := am_ca w hcl
        exact kk_invSU hx hb hown hts w ha (by rw [hz]; exact hC) hat hT hy f1 hmx q1 hR hd h8 q2 q3.1 q3.2 q4 q5
      · contradiction
    · contradiction
  · contradiction
theorem sn_invF {index n : Nat} {count : Nat} {x : MethodName} {ds : List (Nat × Nat)} (hd : decode cc pc = .ok (.invokeinterface index count, 5)) (hF : ∀ q ∈ ds, ∃ C T N y bytes maxL rt, am_nm q.1 = C ∧ am_cl[q.1]? = some (C, T, N) ∧ q.1 < 100 ∧ am_J q.2 = (y, ws_ y bytes maxL rt) ∧ GoodIn lw_all (va_wsF own index C x y (ws_ y bytes maxL rt)) ∧ (C, x, y) ∈ am_fw ∧ maxL ≤ 21 ∧ n + 1 ≤ (am_P q.2).2.1) (hy : x.cls ≠ "java/lang/invoke/MethodHandle" ∧ x.cls ≠ "java/lang/invoke/VarHandle" ∧ (parseMethodDescriptor x.desc).map (fun d => d.parameters.length) = some n) (hn : pc + 5 = nx) : am_SN l D tc G bs own nm cc mL ret hh pc (a_invv ds n nx) := by
  refine ⟨fun G L st h r hr => ?_, ?_⟩
  · unfold a_invv at hr
    split at hr
    · rename_i As a st hpop
      split at hr
      · rename_i c0 fs ha
        split at hr
        · rename_i k9 hk9
          cases h1 : (Nat.ble (am_wd st) 8 && am_1s As) with
          | false => rw [h1] at hr; contradiction
          | true =>
          rw [h1] at hr
          have e9 := Option.some.inj (show some _ = some r from hr); subst e9
          simp only [Bool.and_eq_true] at h1
          obtain ⟨d9, m9, q9⟩ := am_dp_mem hk9
          refine ⟨rfl, h1.2, ?_⟩
          rw [List.length_cons, (am_popd hpop).1]
          obtain ⟨C, T, N, y, bytes, maxL, rt, g1, g2, g3, g4, g5, g6, g7, g8⟩ := hF _ m9
          exact g8
        · contradiction
      · contradiction
    · contradiction
  intro p e R s m args below meth c d sl0 O X L st h r hr po hLn
  obtain ⟨hx, hb, hmL, hrt, hlk, hown, hts, hmn, w, hst, hR, hno⟩ := X
  have hbs := w.2.2.2.2.2.2.2.2.2.2.2.2.2
  unfold a_invv at hr
  split at hr
  · rename_i As a st hpop
    split at hr
    · rename_i c0 fs ha
      split at hr
      · rename_i k9 hk9
        cases h1 : (Nat.ble (am_wd st) 8 && am_1s As) with
        | false => rw [h1] at hr; contradiction
        | true =>
        rw [h1] at hr
        have e9 := Option.some.inj (show some _ = some r from hr); subst e9; subst hn
        simp only [Bool.and_eq_true] at h1
        have h8 : am_wd st ≤ 8 := Nat.le_of_ble_eq_true h1.1
        obtain ⟨d', O', q1, q2, q3, q4, q5⟩ := po
        obtain ⟨f1, f2⟩ := am_popd hpop
        subst f2
        obtain ⟨d9, m9, q9⟩ := am_dp_mem hk9
        obtain ⟨C, T, N, y, bytes, maxL, rt, g1, g2, g3, g4, g5, g6, g7, -⟩ := hF _ m9
        rw [show am_J k9 = _ from g4] at q2
        have hz := am_cc_z q9 g3
        obtain ⟨cC, hat⟩ := am_ca w g2
        exact kk_invF hx hb hown hts w ha (by rw [hz]; exact g1) hat g5 g6 hy f1 g7 q1 hR hd h8 q2 q3.1 q3.2 q4 q5
      · contradiction
    · contradiction
  · contradiction
theorem sn_vret (hd : decode cc pc = .ok (.return_, 1)) (hr9 : ret = none) : am_SN l D tc G bs own nm cc mL ret hh pc (a_vret) := by
  refine ⟨fun G L st h r hr => ?_, ?_⟩
  · unfold a_vret at hr
    (repeat' split at hr) <;> first | contradiction | (simp only [cond_eq_ite] at hr; (repeat' split at hr) <;> first | contradiction | (have e9 := Option.some.inj (show some _ = some r from hr); subst e9; first | exact mo_refl | exact mo_set | exact mo_new | rfl)) | (have e9 := Option.some.inj (show some _ = some r from hr); subst e9; first | exact mo_refl | exact mo_set | exact mo_new | rfl)
  intro p e R s m args below meth c d sl0 O X L st h r hr po hLn
  obtain ⟨hx, hb, hmL, hrt, hlk, hown, hts, hmn, w, hst, hR, hno⟩ := X
  have hbs := w.2.2.2.2.2.2.2.2.2.2.2.2.2
  unfold a_vret at hr
  split at hr
  · have e9 := Option.some.inj (show some _ = some r from hr); subst e9
    exact kk_vret hx hb (by rw [hrt]; exact hr9) hlk hd po
  · contradiction
theorem sn_iret (hd : decode cc pc = .ok (.ireturn, 1)) (hr9 : ret = some .int) : am_SN l D tc G bs own nm cc mL ret hh pc (a_iret) := by
  refine ⟨fun G L st h r hr => ?_, ?_⟩
  · unfold a_iret at hr
    (repeat' split at hr) <;> first | contradiction | (simp only [cond_eq_ite] at hr; (repeat' split at hr) <;> first | contradiction | (have e9 := Option.some.inj (show some _ = some r from hr); subst e9; first | exact mo_refl | exact mo_set | exact mo_new | rfl)) | (have e9 := Option.some.inj (show some _ = some r from hr); subst e9; first | exact mo_refl | exact mo_set | exact mo_new | rfl)
  intro p e R s m args below meth c d sl0 O X L st h r hr po hLn
  obtain ⟨hx, hb, hmL, hrt, hlk, hown, hts, hmn, w, hst, hR, hno⟩ := X
  have hbs := w.2.2.2.2.2.2.2.2.2.2.2.2.2
  unfold a_iret at hr
  split at hr
  · have e9 := Option.some.inj (show some _ = some r from hr); subst e9
    exact kk_zret hx hb (by rw [hrt]; exact hr9) hlk rfl hd po
  · contradiction
theorem sn_zret (hd : decode cc pc = .ok (.ireturn, 1)) (hr9 : ret = some .boolean) : am_SN l D tc G bs own nm cc mL ret hh pc (a_zret) := by
  refine ⟨fun G L st h r hr => ?_, ?_⟩
  · unfold a_zret at hr
    (repeat' split at hr) <;> first | contradiction | (simp only [cond_eq_ite] at hr; (repeat' split at hr) <;> first | contradiction | (have e9 := Option.some.inj (show some _ = some r from hr); subst e9; first | exact mo_refl | exact mo_set | exact mo_new | rfl)) | (have e9 := Option.some.inj (show some _ = some r from hr); subst e9; first | exact mo_refl | exact mo_set | exact mo_new | rfl)
  intro p e R s m args below meth c d sl0 O X L st h r hr po hLn
  obtain ⟨hx, hb, hmL, hrt, hlk, hown, hts, hmn, w, hst, hR, hno⟩ := X
  have hbs := w.2.2.2.2.2.2.2.2.2.2.2.2.2
  unfold a_zret at hr
  split at hr
  · rename_i x
    split at hr
    · rename_i hz
      have e9 := Option.some.inj (show some _ = some r from hr); subst e9
      exact kk_zret hx hb (by rw [hrt]; exact hr9) hlk (by rcases hz with rfl | rfl <;> decide) hd po
    · contradiction
  · contradiction
theorem sn_bret (hd : decode cc pc = .ok (.ireturn, 1)) (hr9 : ret = some .byte) : am_SN l D tc G bs own nm cc mL ret hh pc (a_bret) := by
  refine ⟨fun G L st h r hr => ?_, ?_⟩
  · unfold a_bret a_zret at hr
    (repeat' split at hr) <;> first | contradiction | (simp only [cond_eq_ite] at hr; (repeat' split at hr) <;> first | contradiction | (have e9 := Option.some.inj (show some _ = some r from hr); subst e9; first | exact mo_refl | exact mo_set | exact mo_new | rfl)) | (have e9 := Option.some.inj (show some _ = some r from hr); subst e9; first | exact mo_refl | exact mo_set | exact mo_new | rfl)
  intro p e R s m args below meth c d sl0 O X L st h r hr po hLn
  obtain ⟨hx, hb, hmL, hrt, hlk, hown, hts, hmn, w, hst, hR, hno⟩ := X
  have hbs := w.2.2.2.2.2.2.2.2.2.2.2.2.2
  unfold a_bret a_zret at hr
  split at hr
  · rename_i x
    split at hr
    · rename_i hz
      have e9 := Option.some.inj (show some _ = some r from hr); subst e9
      exact kk_zret hx hb (by rw [hrt]; exact hr9) hlk (by rcases hz with rfl | rfl <;> decide) hd po
    · contradiction
  · contradiction
theorem am_chr {x : Int32} : x.toUInt32.toUInt16.toUInt32.toInt32 = (x.toUInt32 % 65536).toInt32 := by
  congr 1
theorem sn_cret (hd : decode cc pc = .ok (.ireturn, 1)) (hr9 : ret = some .char) : am_SN l D tc G bs own nm cc mL ret hh pc (a_cret) := by
  refine ⟨fun G L st h r hr => ?_, ?_⟩
  · unfold a_cret at hr
    (repeat' split at hr) <;> first | contradiction | (simp only [cond_eq_ite] at hr; (repeat' split at hr) <;> first | contradiction | (have e9 := Option.some.inj (show some _ = some r from hr); subst e9; first | exact mo_refl | exact mo_set | exact mo_new | rfl)) | (have e9 := Option.some.inj (show some _ = some r from hr); subst e9; first | exact mo_refl | exact mo_set | exact mo_new | rfl)
  intro p e R s m args below meth c d sl0 O X L st h r hr po hLn
  obtain ⟨hx, hb, hmL, hrt, hlk, hown, hts, hmn, w, hst, hR, hno⟩ := X
  have hbs := w.2.2.2.2.2.2.2.2.2.2.2.2.2
  unfold a_cret at hr
  split at hr
  · rename_i x
    split at hr
    · rename_i hz
      have e9 := Option.some.inj (show some _ = some r from hr); subst e9
      exact kk_zret hx hb (by rw [hrt]; exact hr9) hlk (by show Value.int _ = Value.int _; rw [am_chr, ← hz]) hd po
    · contradiction
  · contradiction
theorem sn_aret {rt : FieldType} (hd : decode cc pc = .ok (.areturn, 1)) (hr9 : ret = some rt) (hrt9 : (∃ n, rt = .object n) ∨ ∃ t, rt = .array t) : am_SN l D tc G bs own nm cc mL ret hh pc (a_aret) := by
  refine ⟨fun G L st h r hr => ?_, ?_⟩
  · unfold a_aret at hr
    (repeat' split at hr) <;> first | contradiction | (simp only [cond_eq_ite] at hr; (repeat' split at hr) <;> first | contradiction | (have e9 := Option.some.inj (show some _ = some r from hr); subst e9; first | exact mo_refl | exact mo_set | exact mo_new | rfl)) | (have e9 := Option.some.inj (show some _ = some r from hr); subst e9; first | exact mo_refl | exact mo_set | exact mo_new | rfl)
  intro p e R s m args below meth c d sl0 O X L st h r hr po hLn
  obtain ⟨hx, hb, hmL, hrt, hlk, hown, hts, hmn, w, hst, hR, hno⟩ := X
  have hbs := w.2.2.2.2.2.2.2.2.2.2.2.2.2
  unfold a_aret at hr
  split at hr
  · have e9 := Option.some.inj (show some _ = some r from hr); subst e9
    exact kk_aret hx hb (by rw [hrt]; exact hr9) hrt9 (Or.inr ⟨_, rfl⟩) hlk hd po
  · have e9 := Option.some.inj (show some _ = some r from hr); subst e9
    exact kk_aret hx hb (by rw [hrt]; exact hr9) hrt9 (Or.inl rfl) hlk hd po
  · contradiction
theorem sn_athrow (hd : decode cc pc = .ok (.athrow, 1)) : am_SN l D tc G bs own nm cc mL ret hh pc (a_athrow) := by
  refine ⟨fun G L st h r hr => ?_, ?_⟩
  · unfold a_athrow at hr
    split at hr
    · rename_i a st
      split at hr
      · rename_i c0 fs ha
        cases h1 : (Nat.ble 17 c0 && Nat.blt c0 23) with
        | false => rw [h1] at hr; contradiction
        | true =>
          rw [h1] at hr
          have e9 := Option.some.inj (show some _ = some r from hr); subst e9
          simp only [Bool.and_eq_true] at h1
          exact ⟨mo_refl, Nat.le_of_ble_eq_true h1.1, Nat.le_of_ble_eq_true h1.2⟩
      · contradiction
    · contradiction
  intro p e R s m args below meth c d sl0 O X L st h r hr po hLn
  obtain ⟨hx, hb, hmL, hrt, hlk, hown, hts, hmn, w, hst, hR, hno⟩ := X
  have hbs := w.2.2.2.2.2.2.2.2.2.2.2.2.2
  unfold a_athrow at hr
  split at hr
  · rename_i a st
    split at hr
    · rename_i c0 fs ha
      cases h1 : (Nat.ble 17 c0 && Nat.blt c0 23) with
      | false => rw [h1] at hr; contradiction
      | true =>
        rw [h1] at hr
        have e9 := Option.some.inj (show some _ = some r from hr); subst e9
        simp only [Bool.and_eq_true] at h1
        have h23 : c0 < 23 := Nat.le_of_ble_eq_true h1.2
        exact kk_athrow hx hb w hd ha (by omega) po.2.2
    · contradiction
  · contradiction
theorem sn_thr {ik ic x : Nat} {cls : String} {names : List String} (hcls : Bundle.fit cls = true) (hnames : ∀ n ∈ names, Bundle.fit n = true) (hk : Cond.classLink own ik cls ∈ lw_all) (hini : Cond.initialized cls ∈ lw_all) (hat : ∀ w ∈ vx_at0 own ic cls names, w ∈ lw_all)
    (hgood : ∀ w ∈ Cond.classLink own ik cls :: Cond.initialized cls :: vx_at0 own ic cls names, vx_ot w = true) (hnm : am_nm x = cls) (hx9 : 17 ≤ x ∧ x < 23)
    (d0 : decode cc pc = .ok (.new ik, 3)) (d3 : decode cc (pc + 3) = .ok (.dup, 1)) (d4 : decode cc (pc + 4) = .ok (.invokespecial ic, 3)) (d7 : decode cc (pc + 7) = .ok (.athrow, 1)) (hnl : names.length ≤ 6) (hfind : am_find pc x hh = none) (hout : ∀ q ∈ hh, pc + 7 < q.1 ∨ q.2.1 ≤ pc + 7) : am_SN l D tc G bs own nm cc mL ret hh pc (a_thr x 6) := by
  refine ⟨fun G L st h r hr => ?_, ?_⟩
  · unfold a_thr at hr
    cases h1 : Nat.ble (am_wd st) 8 with
    | false => rw [h1] at hr; contradiction
    | true =>
      rw [h1] at hr
      have e9 := Option.some.inj (show some _ = some r from hr); subst e9; exact ⟨⟨Nat.le_succ _, Nat.le_add_right _ _⟩, hx9⟩
  intro p e R s m args below meth c d sl0 O X L st h r hr po hLn
  obtain ⟨hx, hb, hmL, hrt, hlk, hown, hts, hmn, w, hst, hR, hno⟩ := X
  unfold a_thr at hr
  cases h1 : Nat.ble (am_wd st) 8 with
  | false => rw [h1] at hr; contradiction
  | true =>
    rw [h1] at hr
    have e9 := Option.some.inj (show some _ = some r from hr); subst e9
    refine kk_thr hx hb hst hown hcls hnames w (hts _ hk) (hts _ hini) (fun w hw => hts _ (hat w hw)) hgood hnm d0 d3 d4 d7 (fun z hz => ?_) hnl (Nat.le_of_ble_eq_true h1) hR po.1 hlk (po.2.1 hfind)
    obtain ⟨q, hq, f1, f2⟩ := hno z hz
    have := hout q hq
    simp only [covers, f1, f2]
    rcases this with g | g
    · simp only [Bool.and_eq_false_iff, decide_eq_false_iff_not]
      left; omega
    · simp only [Bool.and_eq_false_iff, decide_eq_false_iff_not]
      right; omega
end
