/-! SOUND: invokevirtual of a private method through an object of a subclass -/
set_option maxRecDepth 100000
theorem am_selP {y y2 : MethodName} {C : String} {s : State} {args : Array Value} {n : Nat} (hy : y.cls ≠ "java/lang/invoke/MethodHandle" ∧ y.cls ≠ "java/lang/invoke/VarHandle")
    (hins : (Cond.instantiable C n).before args s = true) (hs2 : (Cond.selects C y2 y2).before args s = true) (he2 : y2.cls = y.cls) (hpriv : (Cond.privateMethod y).before args s = true) (hinst : (Cond.instanceMethod y).before args s = true) : (Cond.selects C y y).before args s = true := by
  obtain ⟨c, k, hc, hk, -, hniab, -, -⟩ := Cond.instantiable_spec hins
  have hni : k.isInterface = false := (Bool.or_eq_false_iff.mp hniab).1
  obtain ⟨mk, methM, hnamed, hmethM, -, -⟩ := Cond.instanceMethod_spec hinst
  have hfound : s.methodFound? y.cls y.name y.desc = some mk := State.methodFound?_of_named hnamed hy
  have hsel : selectMethod {} s.vm c mk = .method mk := selectMethod_private hmethM (Cond.privateMethod_at hpriv mk methM hnamed hmethM)
  obtain ⟨c2, r2, m2, q1, q2, q3, q4, kP, hkP, hkPi⟩ := Cond.selects_spec hs2
  have f0 := findClass_of_methodNamed hnamed
  have f1 : s.vm.findClass y.cls = some m2.cls := by rw [← he2]; first | exact findClass_of_methodNamed q3 | exact findClass_of_methodNamed q4
  have hcls : mk.cls = m2.cls := Option.some.inj (f0.symm.trans f1)
  simp only [Cond.before, Cond.holds, Cond.value, hc, hfound, hnamed, hsel, hk, hcls, hkP]
  simp [hkPi]
section
variable {p : Program} {l : Launch} {e : Env} {R : Room} {s : State} {m : MethodId} {args : Array Value} {below : List Frame} {meth : Method} {c : Code} {Q : State → Prop} {D : va_G} {tc : Nat → ClassId} {G : am_G} {bs sl0 : Nat} {pc nx tg : Nat} {L st : List Value} {h : am_H} {cc : ByteArray} {own : String} {a : Nat}
theorem kk_invP {O : am_O} {y : MethodName} {bytes : ByteArray} {maxL n index d d' : Nat} {ret : Option FieldType} {As : List Value} (hx : p.tables.exec = Jvm.exec) (hb : c.code = cc) (hown : s.vm.findClass own = some m.cls) (hts : ∀ w ∈ lw_all, w.before args s = true) (w : am_WS D tc G bs s)
    {ca : Nat} {fs : List Value} {C : String} (ha : h.1 a = some (.inr (ca, fs))) (hC : am_nm (am_z ca) = C) (hG : GoodIn lw_all (ws_ y bytes maxL ret)) (hl : Cond.methodLink own index y ∈ lw_all) (hsm : Cond.sameMethod y.cls y.cls y.name y.desc ∈ lw_all) (hin : Cond.instanceMethod y ∈ lw_all) (hini : Cond.initialized y.cls ∈ lw_all) (hsx : Cond.selects C y y ∈ am_sx)
    (hy : y.cls ≠ "java/lang/invoke/MethodHandle" ∧ y.cls ≠ "java/lang/invoke/VarHandle" ∧ (parseMethodDescriptor y.desc).map (fun d => d.parameters.length) = some n) (hn : As.length = n) (hmL : maxL ≤ 21) (hd : d' < d) (hR : d + 12 ≤ R.frames ∧ 200 + 40 * d ≤ R.locals)
    (hdg : decode cc pc = .ok (.invokevirtual index, 3)) (hw : am_wd st ≤ 8) (hM : am_MT l D tc G bs y (ws_ y bytes maxL ret) d' (.ref a :: As) h O) (h1 : h.2.1 ≤ (am_hp O).2.1) (h2 : h.2.2 ≤ (am_hp O).2.2) (hRc : (am_hp O).2.1 ≤ s.heap.size + R.cells ∧ (am_hp O).2.2 ≤ sl0 + R.slots)
    (k : am_AF p l e R s m args below meth c Q D tc bs sl0 pc (pc + 3) L st O) : am_KK p l e R s m args below meth c Q D tc bs sl0 pc L (As.reverse ++ .ref a :: st) h := by
  have hc : Cond.code y bytes maxL ret ∈ ws_ y bytes maxL ret := List.mem_cons_self
  have CU : va_CU R s args own C y.cls index y y bytes maxL ret (ws_ y bytes maxL ret) (am_rm d' h (am_hp O)) ((am_hp O).2.1 - h.2.1) ((am_hp O).2.2 - h.2.2) n := by
    refine ⟨⟨rfl, rfl, (am_room hd hmL hR).1, (am_room hd hmL hR).2, pay_in hts hG, hc⟩, hts _ (hG _ hc).1, hts _ hini, ⟨hy.1, hy.2.1⟩, fun sig h => ?_, hts _ hl, hts _ hsm, va_Decl.of (hts _ hin) (hts _ (hG _ hc).1), w.2.2.2.2.2.1.2.2.use hsx, hts _ hin⟩
    have h2 := hy.2.2
    rw [h] at h2
    exact (Option.some.inj h2).symm
  exact kk_run w.2.2.2.2.2.2.2.2.2.2.2.2.2 h1 h2 (fun H ls locs cells slots r1 r2 r3 r4 r5 => vx_runU ⟨hx, hb, rfl, hown, hts⟩ hM CU (am_preV w r1 r3 ha hC) rfl hn r2.size rfl (lv_room (by rw [am_wd_sum]; exact hw)) hdg ⟨by omega, by omega⟩) k
end
section
variable {l : Launch} {D : va_G} {tc : Nat → ClassId} {G : am_G} {bs : Nat} {own nm : String} {cc : ByteArray} {mL : Nat} {ret : Option FieldType} {hh : List (Nat × Nat × Nat × Nat × Nat)} {pc nx : Nat}
theorem sn_invP {index k n maxL : Nat} {y : MethodName} {bytes : ByteArray} {rt : Option FieldType} {ci : Nat} {C : String} (hd : decode cc pc = .ok (.invokevirtual index, 3)) (hJ : am_J k = (y, ws_ y bytes maxL rt)) (hC : am_nm ci = C) (hci : ci < 100) (hG : GoodIn lw_all (ws_ y bytes maxL rt)) (hl : Cond.methodLink own index y ∈ lw_all) (hsm : Cond.sameMethod y.cls y.cls y.name y.desc ∈ lw_all) (hin : Cond.instanceMethod y ∈ lw_all) (hini : Cond.initialized y.cls ∈ lw_all) (hsx : Cond.selects C y y ∈ am_sx) (hy : y.cls ≠ "java/lang/invoke/MethodHandle" ∧ y.cls ≠ "java/lang/invoke/VarHandle" ∧ (parseMethodDescriptor y.desc).map (fun d => d.parameters.length) = some n) (hmx : maxL ≤ 21) (hal : n + 1 ≤ (am_P k).2.1) (hn : pc + 3 = nx) : am_SN l D tc G bs own nm cc mL ret hh pc (a_invv [(ci, k)] n nx) := by
  refine ⟨fun G L st h r hr => ?_, ?_⟩
  · unfold a_invv at hr
    split at hr
    · rename_i As a st hpop
      split at hr
      · rename_i c0 fs ha
        split at hr
        · rename_i k9 hk9
          cases h1 : (Nat.ble (am_wd st) 8 && am_1s As) with
          | false => rw [h1] at hr; contradiction
          | true =>
          rw [h1] at hr
          have e9 := Option.some.inj (show some _ = some r from hr); subst e9
          simp only [Bool.and_eq_true] at h1
          obtain ⟨d9, m9, q9⟩ := am_dp_mem hk9
          refine ⟨rfl, h1.2, ?_⟩
          rw [List.length_cons, (am_popd hpop).1]
          have e8 : d9 = ci ∧ k9 = k := by simpa using m9
          rw [e8.2]; exact hal
        · contradiction
      · contradiction
    · contradiction
  intro p e R s m args below meth c d sl0 O X L st h r hr po hLn
  obtain ⟨hx, hb, hmL, hrt, hlk, hown, hts, hmn, w, hst, hR, hno⟩ := X
  have hbs := w.2.2.2.2.2.2.2.2.2.2.2.2.2
  unfold a_invv at hr
  split at hr
  · rename_i As a st hpop
    split at hr
    · rename_i c0 fs ha
      split at hr
      · rename_i k9 hk9
        cases h1 : (Nat.ble (am_wd st) 8 && am_1s As) with
        | false => rw [h1] at hr; contradiction
        | true =>
        rw [h1] at hr
        have e9 := Option.some.inj (show some _ = some r from hr); subst e9; subst hn
        simp only [Bool.and_eq_true] at h1
        have h8 : am_wd st ≤ 8 := Nat.le_of_ble_eq_true h1.1
        obtain ⟨d', O', q1, q2, q3, q4, q5⟩ := po
        obtain ⟨f1, f2⟩ := am_popd hpop
        subst f2
        obtain ⟨d9, m9, q9⟩ := am_dp_mem hk9
        have e8 : d9 = ci ∧ k9 = k := by simpa using m9
        obtain ⟨rfl, rfl⟩ := e8
        rw [hJ] at q2
        have hz := am_cc_z q9 hci
        exact kk_invP hx hb hown hts w ha (by rw [hz]; exact hC) hG hl hsm hin hini hsx hy f1 hmx q1 hR hd h8 q2 q3.1 q3.2 q4 q5
      · contradiction
    · contradiction
  · contradiction
end
