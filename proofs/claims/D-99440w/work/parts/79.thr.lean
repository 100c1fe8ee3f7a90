/-! SOUND: throws (with words that do not ride in the lists), a bridge method's call -/
set_option maxRecDepth 100000
theorem am_decl {args : Array Value} {s : State} {y : MethodName} {b : ByteArray} {mx : Nat} {ret : Option FieldType} (hi : (Cond.instanceMethod y).before args s = true) (hc : (Cond.code y b mx ret).before args s = true) : (Cond.declares y).before args s = true := by
  obtain ⟨m, meth, h1, h2, h3, h4⟩ := va_Decl.of hi hc
  simp [Cond.before, Cond.holds, Cond.value, h1, h2, h3, h4]
/-- a word of a throw: of the list, castable, or declares with its code in the list -/
def am_tw (cls : String) (w : Cond) : Prop := w ∈ lw_all ∨ w = .castable cls cls ∨ ∃ y b mx ret, w = .declares y ∧ Cond.instanceMethod y ∈ lw_all ∧ Cond.code y b mx ret ∈ lw_all
theorem am_twd {cls : String} {y : MethodName} {b : ByteArray} {mx : Nat} {ret : Option FieldType} (h1 : Cond.instanceMethod y ∈ lw_all) (h2 : Cond.code y b mx ret ∈ lw_all) : am_tw cls (.declares y) := Or.inr (Or.inr ⟨y, b, mx, ret, rfl, h1, h2⟩)
theorem am_twl {own cls : String} {ic : Nat} {names : List String} (h : ∀ w ∈ Bundle.ownAtoms0 own ic cls names, vx_no w = true → am_tw cls w) : ∀ w ∈ vx_at0 own ic cls names, am_tw cls w := fun w hw => h w (List.mem_filter.mp hw).1 (List.mem_filter.mp hw).2
section
variable {l : Launch} {D : va_G} {tc : Nat → ClassId} {G : am_G} {bs : Nat} {own nm : String} {cc : ByteArray} {mL : Nat} {ret : Option FieldType} {hh : List (Nat × Nat × Nat × Nat × Nat)} {pc nx : Nat}
theorem sn_thrQ {ik ic x : Nat} {cls : String} {names : List String} (hcls : Bundle.fit cls = true) (hnames : ∀ n ∈ names, Bundle.fit n = true) (hk : Cond.classLink own ik cls ∈ lw_all) (hini : Cond.initialized cls ∈ lw_all) (hat : ∀ w ∈ vx_at0 own ic cls names, am_tw cls w)
    (hgood : ∀ w ∈ Cond.classLink own ik cls :: Cond.initialized cls :: vx_at0 own ic cls names, vx_ot w = true) (hnm : am_nm x = cls) (hx9 : 17 ≤ x ∧ x < 23)
    (d0 : decode cc pc = .ok (.new ik, 3)) (d3 : decode cc (pc + 3) = .ok (.dup, 1)) (d4 : decode cc (pc + 4) = .ok (.invokespecial ic, 3)) (d7 : decode cc (pc + 7) = .ok (.athrow, 1)) (hnl : names.length ≤ 6) (hfind : am_find pc x hh = none) (hout : ∀ q ∈ hh, pc + 7 < q.1 ∨ q.2.1 ≤ pc + 7) : am_SN l D tc G bs own nm cc mL ret hh pc (a_thr x 6) := by
  refine ⟨fun G L st h r hr => ?_, ?_⟩
  · unfold a_thr at hr
    cases h1 : Nat.ble (am_wd st) 8 with
    | false => rw [h1] at hr; contradiction
    | true =>
      rw [h1] at hr
      have e9 := Option.some.inj (show some _ = some r from hr); subst e9; exact ⟨⟨Nat.le_succ _, Nat.le_add_right _ _⟩, hx9⟩
  intro p e R s m args below meth c d sl0 O X L st h r hr po hLn
  obtain ⟨hx, hb, hmL, hrt, hlk, hown, hts, hmn, w, hst, hR, hno⟩ := X
  unfold a_thr at hr
  cases h1 : Nat.ble (am_wd st) 8 with
  | false => rw [h1] at hr; contradiction
  | true =>
    rw [h1] at hr
    have e9 := Option.some.inj (show some _ = some r from hr); subst e9
    have hat9 : ∀ w9 ∈ vx_at0 own ic cls names, w9.before args s = true := fun w9 hw9 => by
      rcases hat w9 hw9 with q | rfl | ⟨y, b, mx, rt, rfl, q1, q2⟩
      · exact hts _ q
      · exact va_Nw.use rfl (w.2.2.2.2.2.2.2.2.1 _ _ (by rw [← hnm]; exact am_self hx9.1 hx9.2))
      · exact am_decl (hts _ q1) (hts _ q2)
    refine kk_thr hx hb hst hown hcls hnames w (hts _ hk) (hts _ hini) hat9 hgood hnm d0 d3 d4 d7 (fun z hz => ?_) hnl (Nat.le_of_ble_eq_true h1) hR po.1 hlk (po.2.1 hfind)
    obtain ⟨q, hq, f1, f2⟩ := hno z hz
    have := hout q hq
    simp only [covers, f1, f2]
    rcases this with g | g
    · simp only [Bool.and_eq_false_iff, decide_eq_false_iff_not]
      left; omega
    · simp only [Bool.and_eq_false_iff, decide_eq_false_iff_not]
      right; omega
end
section
variable {p : Program} {l : Launch} {e : Env} {R : Room} {s : State} {m : MethodId} {args : Array Value} {below : List Frame} {meth : Method} {c : Code} {Q : State → Prop} {D : va_G} {tc : Nat → ClassId} {G : am_G} {bs sl0 : Nat} {pc nx tg : Nat} {L st : List Value} {h : am_H} {cc : ByteArray} {own : String} {a : Nat}
theorem kk_invO {O : am_O} {y : MethodName} {bytes : ByteArray} {maxL n index d d' : Nat} {ret : Option FieldType} {As : List Value} {x : MethodName} {owner : String} (hx : p.tables.exec = Jvm.exec) (hb : c.code = cc) (hown : s.vm.findClass own = some m.cls) (hts : ∀ w ∈ lw_all, w.before args s = true) (w : am_WS D tc G bs s)
    {ca : Nat} {fs : List Value} {C : String} (ha : h.1 a = some (.inr (ca, fs))) (hC : am_nm (am_z ca) = C) (hT : GoodIn lw_all (va_wsO own index C owner x y (ws_ y bytes maxL ret))) {b0 : ByteArray} {m0 : Nat} {r0 : Option FieldType} (hyx : Cond.code ⟨owner, x.name, x.desc⟩ b0 m0 r0 ∈ lw_all) (hy : owner ≠ "java/lang/invoke/MethodHandle" ∧ owner ≠ "java/lang/invoke/VarHandle" ∧ (parseMethodDescriptor x.desc).map (fun d => d.parameters.length) = some n) (hn : As.length = n) (hmL : maxL ≤ 21) (hd : d' < d) (hR : d + 12 ≤ R.frames ∧ 200 + 40 * d ≤ R.locals)
    (hdg : decode cc pc = .ok (.invokevirtual index, 3)) (hw : am_wd st ≤ 8) (hM : am_MT l D tc G bs y (ws_ y bytes maxL ret) d' (.ref a :: As) h O) (h1 : h.2.1 ≤ (am_hp O).2.1) (h2 : h.2.2 ≤ (am_hp O).2.2) (hRc : (am_hp O).2.1 ≤ s.heap.size + R.cells ∧ (am_hp O).2.2 ≤ sl0 + R.slots)
    (k : am_AF p l e R s m args below meth c Q D tc bs sl0 pc (pc + 3) L st O) : am_KK p l e R s m args below meth c Q D tc bs sl0 pc L (As.reverse ++ .ref a :: st) h :=
  kk_run w.2.2.2.2.2.2.2.2.2.2.2.2.2 h1 h2 (fun H ls locs cells slots r1 r2 r3 r4 r5 => vx_runU ⟨hx, hb, rfl, hown, hts⟩ hM (va_cwO n hts hT rfl rfl rfl hyx hy (am_room hd hmL hR)) (am_preV w r1 r3 ha hC) rfl hn r2.size rfl (lv_room (by rw [am_wd_sum]; exact hw)) hdg ⟨by omega, by omega⟩) k
end
section
variable {l : Launch} {D : va_G} {tc : Nat → ClassId} {G : am_G} {bs : Nat} {own nm : String} {cc : ByteArray} {mL : Nat} {ret : Option FieldType} {hh : List (Nat × Nat × Nat × Nat × Nat)} {pc nx : Nat}
theorem sn_invO {index k n maxL : Nat} {y : MethodName} {bytes : ByteArray} {rt : Option FieldType} {ci : Nat} {C : String} {x : MethodName} {owner : String} (hd : decode cc pc = .ok (.invokevirtual index, 3)) (hJ : am_J k = (y, ws_ y bytes maxL rt)) (hC : am_nm ci = C) (hci : ci < 100) (hT : GoodIn lw_all (va_wsO own index C owner x y (ws_ y bytes maxL rt))) {b0 : ByteArray} {m0 : Nat} {r0 : Option FieldType} (hyx : Cond.code ⟨owner, x.name, x.desc⟩ b0 m0 r0 ∈ lw_all) (hy : owner ≠ "java/lang/invoke/MethodHandle" ∧ owner ≠ "java/lang/invoke/VarHandle" ∧ (parseMethodDescriptor x.desc).map (fun d => d.parameters.length) = some n) (hmx : maxL ≤ 21) (hal : n + 1 ≤ (am_P k).2.1) (hn : pc + 3 = nx) : am_SN l D tc G bs own nm cc mL ret hh pc (a_invv [(ci, k)] n nx) := by
  refine ⟨fun G L st h r hr => ?_, ?_⟩
  · unfold a_invv at hr
    split at hr
    · rename_i As a st hpop
      split at hr
      · rename_i c0 fs ha
        split at hr
        · rename_i k9 hk9
          cases h1 : (Nat.ble (am_wd st) 8 && am_1s As) with
          | false => rw [h1] at hr; contradiction
          | true =>
          rw [h1] at hr
          have e9 := Option.some.inj (show some _ = some r from hr); subst e9
          simp only [Bool.and_eq_true] at h1
          obtain ⟨d9, m9, q9⟩ := am_dp_mem hk9
          refine ⟨rfl, h1.2, ?_⟩
          rw [List.length_cons, (am_popd hpop).1]
          have e8 : d9 = ci ∧ k9 = k := by simpa using m9
          rw [e8.2]; exact hal
        · contradiction
      · contradiction
    · contradiction
  intro p e R s m args below meth c d sl0 O X L st h r hr po hLn
  obtain ⟨hx, hb, hmL, hrt, hlk, hown, hts, hmn, w, hst, hR, hno⟩ := X
  have hbs := w.2.2.2.2.2.2.2.2.2.2.2.2.2
  unfold a_invv at hr
  split at hr
  · rename_i As a st hpop
    split at hr
    · rename_i c0 fs ha
      split at hr
      · rename_i k9 hk9
        cases h1 : (Nat.ble (am_wd st) 8 && am_1s As) with
        | false => rw [h1] at hr; contradiction
        | true =>
        rw [h1] at hr
        have e9 := Option.some.inj (show some _ = some r from hr); subst e9; subst hn
        simp only [Bool.and_eq_true] at h1
        have h8 : am_wd st ≤ 8 := Nat.le_of_ble_eq_true h1.1
        obtain ⟨d', O', q1, q2, q3, q4, q5⟩ := po
        obtain ⟨f1, f2⟩ := am_popd hpop
        subst f2
        obtain ⟨d9, m9, q9⟩ := am_dp_mem hk9
        have e8 : d9 = ci ∧ k9 = k := by simpa using m9
        obtain ⟨rfl, rfl⟩ := e8
        rw [hJ] at q2
        have hz := am_cc_z q9 hci
        exact kk_invO hx hb hown hts w ha (by rw [hz]; exact hC) hT hyx hy f1 hmx q1 hR hd h8 q2 q3.1 q3.2 q4 q5
      · contradiction
    · contradiction
  · contradiction
end
