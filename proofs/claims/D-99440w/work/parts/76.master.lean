/-! SOUND, the seventh part: handlers, the head of a method, the master theorem -/
set_option maxRecDepth 100000
def am_HR (own : String) (cc : ByteArray) (mL : Nat) : List (Nat × Nat × Nat × Nat × Nat) → List (Nat × Nat × Nat × Nat) → Prop
  | [], [] => True
  | (f, t, g, e, i) :: r, (f', t', g', ct) :: r' => (f = f' ∧ t = t' ∧ ct ≠ 0 ∧ 17 ≤ e ∧ e < 23 ∧ i < mL ∧ Cond.classLink own ct (am_nm e) ∈ lw_all ∧ ((decode cc g' = .ok (.astore i, 2) ∧ g = g' + 2) ∨ ∃ k9 : Fin 4, decode cc g' = .ok (.astore_n k9, 1) ∧ (k9 : Nat) = i ∧ g = g' + 1)) ∧ am_HR own cc mL r r'
  | _, _ => False
theorem am_self {x : Nat} (h1 : 17 ≤ x) (h2 : x < 23) : Cond.castable (am_nm x) (am_nm x) ∈ am_nw := by
  have e : x = 17 ∨ x = 18 ∨ x = 19 ∨ x = 20 ∨ x = 21 ∨ x = 22 := by omega
  rcases e with rfl | rfl | rfl | rfl | rfl | rfl
  · exact List.mem_of_getElem? (i := am_nw.length - 1) rfl
  · exact List.mem_of_getElem? (i := am_nw.length - 6) rfl
  · exact List.mem_of_getElem? (i := am_nw.length - 5) rfl
  · exact List.mem_of_getElem? (i := am_nw.length - 4) rfl
  · exact List.mem_of_getElem? (i := am_nw.length - 3) rfl
  · exact List.mem_of_getElem? (i := am_nw.length - 2) rfl
section
variable {p : Program} {l : Launch} {e : Env} {R : Room} {s : State} {m : MethodId} {args : Array Value} {below : List Frame} {meth : Method} {c : Code} {D : va_G} {tc : Nat → ClassId} {G : am_G} {bs sl0 : Nat} {pc : Nat} {L st : List Value} {h : am_H} {cc : ByteArray} {own : String}
/-- an entry of the table that lets the exception pass -/
def am_ps (own : String) (args : Array Value) (s : State) (x pc : Nat) (z : ExceptionTableEntry) : Prop := covers z pc = false ∨ (z.catchType ≠ 0 ∧ ∃ nm : String, (Cond.classLink own z.catchType nm).before args s = true ∧ va_Nc (am_nm x) nm s)
theorem am_ht {x mL : Nat} (h17 : 17 ≤ x) (h23 : x < 23) (hts : ∀ w ∈ lw_all, w.before args s = true) (w : am_WS D tc G bs s) {tb : List ExceptionTableEntry} : ∀ {hh : List (Nat × Nat × Nat × Nat × Nat)} {h4 : List (Nat × Nat × Nat × Nat)} {pre : List ExceptionTableEntry}, am_HR own cc mL hh h4 → tb = pre ++ tableOf h4 → (∀ z ∈ pre, am_ps own args s x pc z) →
    (am_find pc x hh = none → ∀ z ∈ tb, am_ps own args s x pc z) ∧ (∀ g i, am_find pc x hh = some (g, i) → ∃ pre' z suf, tb = pre' ++ z :: suf ∧ (∀ z ∈ pre', am_ps own args s x pc z) ∧ covers z pc = true ∧ z.catchType ≠ 0 ∧ Cond.classLink own z.catchType (am_nm x) ∈ lw_all ∧ i < mL ∧ ((decode cc z.handlerPc = .ok (.astore i, 2) ∧ g = z.handlerPc + 2) ∨ ∃ k9 : Fin 4, decode cc z.handlerPc = .ok (.astore_n k9, 1) ∧ (k9 : Nat) = i ∧ g = z.handlerPc + 1))
  | [], [], pre, _, ht, hp => by
    refine ⟨fun _ z hz => hp z ?_, fun g i q => nomatch q⟩
    rw [ht] at hz
    simpa [tableOf] using hz
  | (f, t, g, e, i) :: r, (f', t', g', ct) :: r', pre, hR, ht, hp => by
    obtain ⟨⟨rfl, rfl, k3, k4, k5, k6, k7, k8⟩, k9⟩ := hR
    have ht' : tb = (pre ++ [⟨f, t, g', ct⟩]) ++ tableOf r' := by rw [ht]; simp [tableOf]
    cases h1 : (Nat.ble f pc && (Nat.blt pc t && am_sub x e)) with
    | true =>
      have hf : am_find pc x ((f, t, g, e, i) :: r) = some (g, i) := by simp only [am_find, h1, cond_true]
      simp only [Bool.and_eq_true] at h1
      have he : x = e := Nat.eq_of_beq_eq_true h1.2.2
      subst he
      refine ⟨fun q => (by rw [hf] at q; cases q), fun g9 i9 q => ?_⟩
      rw [hf] at q
      cases q
      refine ⟨pre, ⟨f, t, g', ct⟩, tableOf r', by rw [ht]; rfl, hp, ?_, k3, k7, k6, k8⟩
      have a1 : f ≤ pc := Nat.le_of_ble_eq_true h1.1
      have a2 : pc < t := Nat.le_of_ble_eq_true h1.2.1
      simp only [covers, Bool.and_eq_true, decide_eq_true_eq]
      exact ⟨a1, a2⟩
    | false =>
      have hf : am_find pc x ((f, t, g, e, i) :: r) = am_find pc x r := by simp only [am_find, h1, cond_false]
      have hps : am_ps own args s x pc ⟨f, t, g', ct⟩ := by
        by_cases hc : covers ⟨f, t, g', ct⟩ pc = true
        · right
          simp only [covers, Bool.and_eq_true, decide_eq_true_eq] at hc
          have b1 : Nat.ble f pc = true := Nat.ble_eq_true_of_le hc.1
          have b2 : Nat.blt pc t = true := Nat.ble_eq_true_of_le hc.2
          rw [b1, b2] at h1
          have hne : x ≠ e := fun q => by
            subst q
            have : am_sub x x = true := Nat.beq_refl x
            rw [this] at h1
            cases h1
          exact ⟨k3, am_nm e, hts _ k7, w.2.2.2.2.2.2.2.2.2.2.1 x e h17 h23 k4 k5 hne⟩
        · exact Or.inl (by simpa using hc)
      rw [hf]
      exact am_ht (hh := r) (h4 := r') h17 h23 hts w k9 ht' (fun z hz => (List.mem_append.mp hz).elim (hp z) (fun q => by rw [List.mem_singleton.mp q]; exact hps))
  | [], _ :: _, _, hR, _, _ => hR.elim
  | _ :: _, [], _, hR, _, _ => hR.elim
/-- an exception over a frame: caught, or it goes on -/
theorem xx_hn {x mL : Nat} {O : am_O} {hh : List (Nat × Nat × Nat × Nat × Nat)} {h4 : List (Nat × Nat × Nat × Nat)} (h17 : 17 ≤ x) (h23 : x < 23) (hx : p.tables.exec = Jvm.exec) (hb : c.code = cc) (hmL : c.maxLocals = mL) (hown : s.vm.findClass own = some m.cls) (hts : ∀ w ∈ lw_all, w.before args s = true) (w : am_WS D tc G bs s) (hlocks : meth.locks = false)
    (hHR : am_HR own cc mL hh h4) (htb : c.exceptionTable.toList = tableOf h4) (hO : am_find pc x hh = none → O = .inr (x, h)) (k : ∀ g i, am_find pc x hh = some (g, i) → am_KK p l e R s m args below meth c (am_Q D tc bs sl0 below args s O) D tc bs sl0 g (am_st L i am_un) [] h) :
    am_XX p l e R s m args below meth c (am_Q D tc bs sl0 below args s O) D tc bs sl0 pc L x h := by
  intro H ls locs cells slots rest q ce r1 r2 r3 r4 r5 g1 g2 g3
  obtain ⟨hn, hs⟩ := am_ht (own := own) (cc := cc) (mL := mL) (pc := pc) h17 h23 hts w (tb := c.exceptionTable.toList) (pre := []) hHR (by rw [htb]; rfl) (fun z hz => nomatch hz)
  cases hf : am_find pc x hh with
  | none =>
    have hO := hO hf
    refine vx_outP hown hlocks (hn hf) g1 g2 g3 (fun t ht hvm => ?_) r3.2.2 (by rw [hO]; simp only [am_hp]; omega) (by rw [hO]; simp only [am_hp]; omega)
    subst hO
    exact ⟨rfl, by rw [ht]; exact r1.moved hvm, r3.F ht⟩
  | some gi =>
    obtain ⟨g, i⟩ := gi
    obtain ⟨pre, z, suf, z1, z2, z3, z4, z5, z6, z7⟩ := hs g i hf
    refine vx_catch hown pre z suf z1 z2 z3 z4 (hts _ z5) (va_Nw.use rfl (w.2.2.2.2.2.2.2.2.1 _ _ (am_self h17 h23))) g1 g2 g3 ?_
    obtain ⟨hL, lv, f1, f2⟩ := r2
    rcases z7 with ⟨d1, d2⟩ | ⟨k9, d1, d2, d3⟩
    · exact lv_astore hx hb d1 f1 (by omega) rfl (fun ls' h' => by
        have := k g i hf H ls' locs cells slots r1 (am_LR.un hL f2 h') r3 r4 r5
        rw [d2] at this
        exact this)
    · exact lv_astore_n hx hb d1 d2 f1 (by omega) rfl (fun ls' h' => by
        have := k g i hf H ls' locs cells slots r1 (am_LR.un hL f2 h') r3 r4 r5
        rw [d3] at this
        exact this)
end
/-- the locals at a method's start -/
theorem am_sl : ∀ {As : List Value}, am_1s As = true → lg_sl As = As.map Slot.val
  | [], _ => rfl
  | v :: r, h => by
    simp only [am_1s, Bool.and_eq_true] at h
    have e := am_1c h.1
    have ih := am_sl h.2
    simp only [lg_sl, List.flatMap_cons, e] at ih ⊢
    rw [ih]
    rfl
theorem am_la : ∀ {As : List Value} {k : Nat}, am_1s As = true → ∀ i v, am_ix As i = some v → (k + i, v) ∈ lv_args k As ∧ am_1 v = true
  | [], _, _, _, _, h => nomatch h
  | x :: r, k, h, 0, v, hv => by
    cases hv
    simp only [am_1s, Bool.and_eq_true] at h
    exact ⟨List.mem_cons_self, h.1⟩
  | x :: r, k, h, i + 1, v, hv => by
    simp only [am_1s, Bool.and_eq_true] at h
    have e := am_1c h.1
    obtain ⟨q1, q2⟩ := am_la (k := k + 1) h.2 i v hv
    refine ⟨List.mem_cons_of_mem _ ?_, q2⟩
    rw [e, if_neg (by decide), show k + (i + 1) = k + 1 + i by omega]
    exact q1
theorem am_lo_LR {As : List Value} {n : Nat} (h1 : am_1s As = true) (hn : As.length ≤ n) : am_LR ((lg_sl As ++ List.replicate (n - (lg_sl As).length) Slot.unset).toArray) n (am_lo As n) := by
  have hl : (lg_sl As).length = As.length := by rw [am_sl h1, List.length_map]
  refine ⟨by simp [am_lo]; omega, _, lv_entry As (by omega), fun i v hv => ?_⟩
  rw [am_ix_get] at hv
  by_cases hi : i < As.length
  · rw [am_lo, List.getElem?_append_left hi, ← am_ix_get] at hv
    obtain ⟨q1, q2⟩ := am_la (k := 0) h1 i v hv
    rw [Nat.zero_add] at q1
    exact Or.inr ⟨q1, q2⟩
  · rw [am_lo, List.getElem?_append_right (by omega)] at hv
    exact Or.inl (List.eq_of_mem_replicate (List.mem_of_getElem? hv))
section
variable (l : Launch) (D : va_G) (tc : Nat → ClassId) (G : am_G) (bs : Nat)
/-- what the texts prove of a method -/
def am_GD (k : Nat) : Prop := ∃ (cc : ByteArray) (ret : Option FieldType) (h4 : List (Nat × Nat × Nat × Nat)), plainName (am_J k).1.cls = true ∧
  ((am_J k).2 = ws_ (am_J k).1 cc (am_P k).2.1 ret ∧ h4 = [] ∨ (am_J k).2 = wsW_ (am_J k).1 cc (am_P k).2.1 ret h4) ∧ am_HR (am_J k).1.cls cc (am_P k).2.1 (am_P k).2.2 h4 ∧
  ∀ pc act, (am_P k).1 pc = some act → am_SN l D tc G bs (am_J k).1.cls (am_J k).1.name cc (am_P k).2.1 ret (am_P k).2.2 pc act
end
section
variable {l : Launch} {D : va_G} {tc : Nat → ClassId} {G : am_G} {bs : Nat}
theorem am_HR.tb {own : String} {cc : ByteArray} {mL : Nat} : ∀ {hh : List (Nat × Nat × Nat × Nat × Nat)} {h4 : List (Nat × Nat × Nat × Nat)}, am_HR own cc mL hh h4 → ∀ z ∈ tableOf h4, ∃ q ∈ hh, z.startPc = q.1 ∧ z.endPc = q.2.1
  | [], [], _, z, hz => nomatch hz
  | (f, t, g, e, i) :: r, (f', t', g', ct) :: r', hR, z, hz => by
    obtain ⟨⟨rfl, rfl, -⟩, k9⟩ := hR
    rcases List.mem_cons.mp (show z ∈ (⟨f, t, g', ct⟩ : ExceptionTableEntry) :: tableOf r' from hz) with rfl | hz
    · exact ⟨_, List.mem_cons_self, rfl, rfl⟩
    · obtain ⟨q, q1, q2⟩ := am_HR.tb k9 z hz
      exact ⟨q, List.mem_cons_of_mem _ q1, q2⟩
  | [], _ :: _, hR, _, _ => hR.elim
  | _ :: _, [], hR, _, _ => hR.elim
/-- what is so of a run of a frame of method k -/
def am_FR (l : Launch) (D : va_G) (tc : Nat → ClassId) (G : am_G) (bs : Nat) (d k pc : Nat) (L st : List Value) (h : am_H) (O : am_O) : Prop :=
  (h.2.1 ≤ (am_hp O).2.1 ∧ h.2.2 ≤ (am_hp O).2.2) ∧ (∀ x h9, O = .inr (x, h9) → 17 ≤ x ∧ x < 23) ∧
  ∀ (cc : ByteArray) (ret : Option FieldType) (h4 : List (Nat × Nat × Nat × Nat)), am_HR (am_J k).1.cls cc (am_P k).2.1 (am_P k).2.2 h4 → (∀ pc act, (am_P k).1 pc = some act → am_SN l D tc G bs (am_J k).1.cls (am_J k).1.name cc (am_P k).2.1 ret (am_P k).2.2 pc act) →
  ∀ (p : Program) (e : Env) (R : Room) (s : State) (m : MethodId) (args : Array Value) (below : List Frame) (meth : Method) (c : Code) (sl0 : Nat),
    am_CX l D tc G bs (am_J k).1.cls (am_J k).1.name cc (am_P k).2.1 ret (am_P k).2.2 p e R s m args meth c d → c.exceptionTable.toList = tableOf h4 → ((am_hp O).2.1 ≤ s.heap.size + R.cells ∧ (am_hp O).2.2 ≤ sl0 + R.slots) →
    am_KK p l e R s m args below meth c (am_Q D tc bs sl0 below args s O) D tc bs sl0 pc L st h
/-- the head of a method -/
theorem am_head {d k : Nat} {As : List Value} {h : am_H} {O : am_O} (hl : l.stackTraces = false) (hG : am_GD l D tc G bs k) (h1 : am_1s As = true) (hn : As.length ≤ (am_P k).2.1) (F : am_FR l D tc G bs d k 0 (am_lo As (am_P k).2.1) [] h O) : am_MT l D tc G bs (am_J k).1 (am_J k).2 d As h O := by
  obtain ⟨cc, ret, h4, hpl, hws, hHR, hSN⟩ := hG
  have go : ∀ (p : Program) (e : Env) (s : State) (m : MethodId) (args : Array Value) (below : List Frame) (meth : Method) (c : Code) (s₁ : State), BodyLoose p l (am_J k).1 (headSpec (am_J k).2 (am_rm d h (am_hp O))) cc (am_P k).2.1 ret e s m args below meth c s₁ → c.maxLocals = (am_P k).2.1 → c.exceptionTable.toList = tableOf h4 → (∀ w ∈ lw_all, w.before args s = true) → am_Pc D tc G bs As h args s →
      W p l e (headSpec (am_J k).2 (am_rm d h (am_hp O))).room s m args below meth c s.heap [] 0 0 (vx_MQ below (am_Qc D tc bs O) (am_Xc D tc bs O) args s ((am_hp O).2.1 - h.2.1) ((am_hp O).2.2 - h.2.2) (fun q => bs ≤ q)) (entryFrame m args (am_P k).2.1) := by
    intro p e s m args below meth c s₁ B hml htb hts hP
    obtain ⟨q0, q1, q2⟩ := hP
    subst q0
    have hsz : s.heap.size = h.2.1 := q2.1
    rw [lg_entry_eq, ← hsz]
    refine F.2.2 cc ret h4 hHR hSN p e _ s m As.toArray below meth c h.2.2 ⟨B.exec, B.bytes, hml, B.returns, B.notSynchronized, findClass_of_methodNamed B.named, hts, (name_of_methodNamed B.named B.method).1, q1, hl, ⟨Nat.le_refl _, Nat.le_refl _⟩, fun z hz => hHR.tb z (by rw [← htb]; exact hz)⟩ htb ⟨?_, ?_⟩ s.heap _ [] 0 0 q2 (by rw [hml]; exact am_lo_LR h1 hn) ⟨Nat.le_refl _, fun _ _ _ => rfl, fun q hq => nomatch hq⟩ hsz rfl
    · show _ ≤ s.heap.size + ((am_hp O).2.1 - h.2.1)
      omega
    · show _ ≤ h.2.2 + ((am_hp O).2.2 - h.2.2)
      omega
  unfold am_MT
  rcases hws with ⟨hw, rfl⟩ | hw
  · refine vx_ofW hpl hw fun p e s m args below meth c s₁ B hml ht hP => go p e s m args below meth c s₁ B hml ?_ ?_ hP
    · exact List.eq_nil_iff_forall_not_mem.mpr (fun z hz => ht z hz)
    · intro w hw9
      exact atoms_spec (ws := (am_J k).2) B.pre w (by rw [hw]; exact List.mem_cons_of_mem _ hw9)
  · refine vx_ofWH hpl hw fun p e s m args below meth c s₁ B hml hP => go p e s m args below meth c s₁ B hml ?_ ?_ hP
    · exact vx_table (x := (am_J k).1) B (atoms_spec (ws := (am_J k).2) B.pre _ (by rw [hw]; exact List.mem_cons_self))
    · intro w hw9
      exact atoms_spec (ws := (am_J k).2) B.pre w (by rw [hw]; exact List.mem_cons_of_mem _ hw9)
theorem am_FR.hn {n d k pc : Nat} {L : List Value} {x : Nat} {h : am_H} {O : am_O} (ih : ∀ pc L st h, am_x G n d (am_P k) pc L st h = some O → am_FR l D tc G bs d k pc L st h O) (h17 : 17 ≤ x) (h23 : x < 23) (hr : am_hn (am_x G n) d (am_P k) pc L x h = some O) :
    (h.2.1 ≤ (am_hp O).2.1 ∧ h.2.2 ≤ (am_hp O).2.2) ∧ (∀ x h9, O = .inr (x, h9) → 17 ≤ x ∧ x < 23) ∧ (am_find pc x (am_P k).2.2 = none → O = .inr (x, h)) ∧
    ∀ (cc : ByteArray) (ret : Option FieldType) (h4 : List (Nat × Nat × Nat × Nat)), am_HR (am_J k).1.cls cc (am_P k).2.1 (am_P k).2.2 h4 → (∀ pc act, (am_P k).1 pc = some act → am_SN l D tc G bs (am_J k).1.cls (am_J k).1.name cc (am_P k).2.1 ret (am_P k).2.2 pc act) →
    ∀ (p : Program) (e : Env) (R : Room) (s : State) (m : MethodId) (args : Array Value) (below : List Frame) (meth : Method) (c : Code) (sl0 : Nat),
      am_CX l D tc G bs (am_J k).1.cls (am_J k).1.name cc (am_P k).2.1 ret (am_P k).2.2 p e R s m args meth c d → c.exceptionTable.toList = tableOf h4 → ((am_hp O).2.1 ≤ s.heap.size + R.cells ∧ (am_hp O).2.2 ≤ sl0 + R.slots) →
      am_XX p l e R s m args below meth c (am_Q D tc bs sl0 below args s O) D tc bs sl0 pc L x h := by
  unfold am_hn at hr
  have hX : ∀ (hO : am_find pc x (am_P k).2.2 = none → O = .inr (x, h)), (∀ g i, am_find pc x (am_P k).2.2 = some (g, i) → am_FR l D tc G bs d k g (am_st L i am_un) [] h O) → ∀ (cc : ByteArray) (ret : Option FieldType) (h4 : List (Nat × Nat × Nat × Nat)), am_HR (am_J k).1.cls cc (am_P k).2.1 (am_P k).2.2 h4 → (∀ pc act, (am_P k).1 pc = some act → am_SN l D tc G bs (am_J k).1.cls (am_J k).1.name cc (am_P k).2.1 ret (am_P k).2.2 pc act) →
    ∀ (p : Program) (e : Env) (R : Room) (s : State) (m : MethodId) (args : Array Value) (below : List Frame) (meth : Method) (c : Code) (sl0 : Nat),
      am_CX l D tc G bs (am_J k).1.cls (am_J k).1.name cc (am_P k).2.1 ret (am_P k).2.2 p e R s m args meth c d → c.exceptionTable.toList = tableOf h4 → ((am_hp O).2.1 ≤ s.heap.size + R.cells ∧ (am_hp O).2.2 ≤ sl0 + R.slots) →
      am_XX p l e R s m args below meth c (am_Q D tc bs sl0 below args s O) D tc bs sl0 pc L x h := by
    intro hO hk cc ret h4 hHR hSN p e R s m args below meth c sl0 X htb hRm
    have X0 := X
    obtain ⟨hx, hb, hmL, hrt, hlk, hown, hts, hmn, w, hst, hR, hno⟩ := X
    exact xx_hn h17 h23 hx hb hmL hown hts w hlk hHR htb hO (fun g i hf => (hk g i hf).2.2 cc ret h4 hHR hSN p e R s m args below meth c sl0 X0 htb hRm)
  cases hf : am_find pc x (am_P k).2.2 with
  | none =>
    rw [hf] at hr hX
    have e9 := Option.some.inj hr
    refine ⟨by rw [← e9]; exact ⟨Nat.le_refl _, Nat.le_refl _⟩, fun x' h9 q => ?_, fun _ => e9.symm, hX (fun _ => e9.symm) (fun g i q => by cases q)⟩
    rw [← e9] at q
    cases q
    exact ⟨h17, h23⟩
  | some gi =>
    obtain ⟨g, i⟩ := gi
    rw [hf] at hr hX
    have F := ih _ _ _ _ hr
    exact ⟨F.1, F.2.1, (fun q => by cases q), hX (fun q => by cases q) (fun g' i' q => by cases q; exact F)⟩
/-- THE MASTER: a run of the abstract machine is a run of the real one -/
theorem am_run (hl : l.stackTraces = false) (hG : ∀ k, am_GD l D tc G bs k) : ∀ n d k pc L st h O, am_x G n d (am_P k) pc L st h = some O → am_FR l D tc G bs d k pc L st h O
  | 0, _, _, _, _, _, _, _, hr => nomatch hr
  | n + 1, d, k, pc, L, st, h, O, hr => by
    have ih := am_run hl hG n
    have h0 : am_b G (am_x G n) d (am_P k) pc L st h = some O := hr
    clear hr
    unfold am_b at h0
    cases ha : (am_P k).1 pc with
    | none => rw [ha] at h0; cases h0
    | some act =>
      rw [ha] at h0
      have h1 : am_b1 (am_x G n) d (am_P k) pc L (act G L st h) = some O := h0
      clear h0
      cases hact : act G L st h with
      | none => rw [hact] at h1; cases h1
      | some r =>
        rw [hact] at h1
        obtain ⟨cc0, ret0, h40, -, -, -, hSN0⟩ := hG k
        have mo := (hSN0 pc act ha).1 G L st h r hact
        revert h1 mo hact
        match r with
        | .inl (pc', L', st', h') =>
          intro hr hact mo
          have F := ih d k pc' L' st' h' O hr
          refine ⟨⟨Nat.le_trans mo.1 F.1.1, Nat.le_trans mo.2 F.1.2⟩, F.2.1, ?_⟩
          intro cc ret h4 hHR hSN p e R s m args below meth c sl0 X htb hRm H ls locs cells slots r1 r2 r3 r4 r5
          exact (hSN pc act ha).2 p e R s m args below meth c d sl0 O X L st h _ hact ⟨⟨Nat.le_trans F.1.1 hRm.1, Nat.le_trans F.1.2 hRm.2⟩, F.2.2 cc ret h4 hHR hSN p e R s m args below meth c sl0 X htb hRm⟩ (r2.1.trans X.2.2.1) H ls locs cells slots r1 r2 r3 r4 r5
        | .inr (.inl (k', As, pc', L', rest, h')) =>
          intro hr hact mo
          obtain ⟨rfl, m1, m2⟩ := mo
          match d, hr with
          | 0, hr => cases hr
          | d' + 1, hr =>
            simp only [am_b1] at hr
            cases hc : am_x G n d' (am_P k') 0 (am_lo As (am_P k').2.1) [] h' with
            | none => rw [hc] at hr; cases hr
            | some O1 =>
              rw [hc] at hr
              have F1 := ih d' k' 0 _ [] h' O1 hc
              have hMT := am_head hl (hG k') m1 m2 F1
              match O1, hr, F1, hMT with
              | .inl (v, h2), hr, F1, hMT =>
                have F := ih (d' + 1) k pc' L' (v.toList ++ rest) h2 O hr
                refine ⟨⟨Nat.le_trans F1.1.1 F.1.1, Nat.le_trans F1.1.2 F.1.2⟩, F.2.1, ?_⟩
                intro cc ret h4 hHR hSN p e R s m args below meth c sl0 X htb hRm H ls locs cells slots r1 r2 r3 r4 r5
                exact (hSN pc act ha).2 p e R s m args below meth c (d' + 1) sl0 O X L st h' _ hact ⟨d', .inl (v, h2), Nat.lt_succ_self _, hMT, F1.1, ⟨Nat.le_trans F.1.1 hRm.1, Nat.le_trans F.1.2 hRm.2⟩, F.2.2 cc ret h4 hHR hSN p e R s m args below meth c sl0 X htb hRm⟩ (r2.1.trans X.2.2.1) H ls locs cells slots r1 r2 r3 r4 r5
              | .inr (x, h2), hr, F1, hMT =>
                obtain ⟨x1, x2⟩ := F1.2.1 x h2 rfl
                obtain ⟨f1, f2, f3, f4⟩ := am_FR.hn (fun pc L st h q => ih (d' + 1) k pc L st h O q) x1 x2 hr
                refine ⟨⟨Nat.le_trans F1.1.1 f1.1, Nat.le_trans F1.1.2 f1.2⟩, f2, ?_⟩
                intro cc ret h4 hHR hSN p e R s m args below meth c sl0 X htb hRm H ls locs cells slots r1 r2 r3 r4 r5
                exact (hSN pc act ha).2 p e R s m args below meth c (d' + 1) sl0 O X L st h' _ hact ⟨d', .inr (x, h2), Nat.lt_succ_self _, hMT, F1.1, ⟨Nat.le_trans f1.1 hRm.1, Nat.le_trans f1.2 hRm.2⟩, f4 cc ret h4 hHR hSN p e R s m args below meth c sl0 X htb hRm⟩ (r2.1.trans X.2.2.1) H ls locs cells slots r1 r2 r3 r4 r5
        | .inr (.inr (.inl (v, h'))) =>
          intro hr hact mo
          have mo : h' = h := mo
          subst mo
          have e9 : Sum.inl (v, h') = O := Option.some.inj hr
          subst e9
          refine ⟨⟨Nat.le_refl _, Nat.le_refl _⟩, (fun x h9 q => by cases q), ?_⟩
          intro cc ret h4 hHR hSN p e R s m args below meth c sl0 X htb hRm H ls locs cells slots r1 r2 r3 r4 r5
          exact (hSN pc act ha).2 p e R s m args below meth c d sl0 _ X L st h' _ hact rfl (r2.1.trans X.2.2.1) H ls locs cells slots r1 r2 r3 r4 r5
        | .inr (.inr (.inr (x, h'))) =>
          intro hr hact mo
          obtain ⟨⟨m1, m2⟩, x1, x2⟩ := mo
          obtain ⟨f1, f2, f3, f4⟩ := am_FR.hn (fun pc L st h q => ih d k pc L st h O q) x1 x2 hr
          refine ⟨⟨Nat.le_trans m1 f1.1, Nat.le_trans m2 f1.2⟩, f2, ?_⟩
          intro cc ret h4 hHR hSN p e R s m args below meth c sl0 X htb hRm H ls locs cells slots r1 r2 r3 r4 r5
          exact (hSN pc act ha).2 p e R s m args below meth c d sl0 O X L st h _ hact ⟨⟨Nat.le_trans f1.1 hRm.1, Nat.le_trans f1.2 hRm.2⟩, f3, f4 cc ret h4 hHR hSN p e R s m args below meth c sl0 X htb hRm⟩ (r2.1.trans X.2.2.1) H ls locs cells slots r1 r2 r3 r4 r5
end
