/-! SOUND, the second part: what a method's start knows (am_WS), contracts (am_MT), calls, returns, throws -/
set_option maxRecDepth 100000
/-- which code a private method's name selects in a StringBuilder -/
def am_sx : List Cond := [Cond.selects "java/lang/StringBuilder" ⟨"java/lang/AbstractStringBuilder", "ensureCapacityInternal", "(I)V"⟩ ⟨"java/lang/AbstractStringBuilder", "ensureCapacityInternal", "(I)V"⟩, Cond.selects "java/lang/StringBuilder" ⟨"java/lang/AbstractStringBuilder", "newCapacity", "(I)I"⟩ ⟨"java/lang/AbstractStringBuilder", "newCapacity", "(I)I"⟩]
def am_PV (s : State) : Prop := ∀ w ∈ am_sx, w.before #[] s = true
theorem am_sx_good : GoodIn am_sx am_sx := goodIn_sub (fun _ h => h) (by decide +kernel)
theorem am_PV.go {s U : State} (h : am_PV s) (hW : s.WarmedH U.vm) : am_PV U := fun w hw => pay_in h am_sx_good w hw #[] U hW
theorem am_PV.use {s : State} (h : am_PV s) {w : Cond} (hw : w ∈ am_sx) {args : Array Value} : w.before args s = true := pay_in h am_sx_good w hw args s (State.WarmedH.refl s)
section
variable (D : va_G) (tc : Nat → ClassId) (G : am_G) (bs : Nat)
/-- what holds of the tables and of the constants all through a run -/
def am_WS (s : State) : Prop :=
  va_K D am_cl (am_tys tc) s ∧ am_OB s ∧ (∀ x ∈ am_sta, va_Z x.1 x.2.1 x.2.2.1 (G x.2.2.2) (fun q => bs ≤ q) s s.heap) ∧ (∀ x ∈ am_str, ∃ a, G x.2.2.2 = .ref a ∧ vk_R x.1 x.2.1 x.2.2.1 a s) ∧ (∃ mi, G am_gm = .ref mi ∧ va_Mi "[Ljava/lang/Object;" mi s) ∧ (va_AO "java/lang/Object" s ∧ va_Dc s ∧ am_PV s)
  ∧ (∀ a i b n d h, Cond.fieldLinkNest a i b n d h ∈ am_nw → va_Nw (.fieldLinkNest a i b n d h) s) ∧ (∀ a i x h, Cond.methodLinkNest a i x h ∈ am_nw → va_Nw (.methodLinkNest a i x h) s) ∧ (∀ C T, Cond.castable C T ∈ am_nw → va_Nw (.castable C T) s)
  ∧ (∀ x ∈ am_fw, (x.2.1.cls ≠ "java/lang/invoke/MethodHandle" ∧ x.2.1.cls ≠ "java/lang/invoke/VarHandle") ∧ va_Fw x.1 x.2.1 x.2.2 s) ∧ (∀ c e, 17 ≤ c → c < 23 → 17 ≤ e → e < 23 → c ≠ e → va_Nc (am_nm c) (am_nm e) s)
  ∧ (vx_Zq Bundle.tN "UNASSIGNED_STACK" Bundle.steD (fun q => bs ≤ q) s s.heap ∧ vx_Zq Bundle.tN "SUPPRESSED_SENTINEL" Bundle.listD (fun q => bs ≤ q) s s.heap)
  ∧ (am_FI D 23 s 0 "StoneBacks$Kind" "told" "Ljava/lang/String;" ∧ am_FI D 24 s 0 "StoneBacks$Fact" "told" "Ljava/lang/String;" ∧ am_FI D 24 s 1 "java/lang/Enum" "ordinal" "I") ∧ bs ≤ s.heap.size
end
section
variable {D : va_G} {tc : Nat → ClassId} {G : am_G} {bs : Nat} {s U : State}
theorem am_FI.moved {c i : Nat} {o n d : String} (h : am_FI D c s i o n d) (hvm : s.vm.Alike U.vm) : am_FI D c U i o n d := by
  obtain ⟨cf, kf, fi, f, h1, h2, h3⟩ := h
  obtain ⟨k', hi', -⟩ := State.fieldFound?_setVm hvm h1
  exact ⟨cf, k', fi, f, hi', h2, h3⟩
theorem am_Nc_moved {C T : String} (h : va_Nc C T s) (hvm : s.vm.Alike U.vm) : va_Nc C T U := by
  obtain ⟨c, t, h1, h2, h3⟩ := h
  exact ⟨c, t, by rw [hvm.findClass]; exact h1, by rw [hvm.findClass]; exact h2, by rw [hvm.assignable]; exact h3⟩
theorem am_WS.go (w : am_WS D tc G bs s) (hW : s.WarmedH U.vm) (hz : s.heap.size ≤ U.heap.size) (hk : ∀ q, q < s.heap.size → ¬ bs ≤ q → U.heap[q]? = s.heap[q]?) : am_WS D tc G bs U := by
  obtain ⟨w1, w2, w3, w4, ⟨mi, w5, w6⟩, ⟨w7, w8, w8b⟩, w9, w10, w11, w12, w13, ⟨w14, w15⟩, ⟨w16, w17, w18⟩, w19⟩ := w
  have hvm := hW.alike
  exact ⟨va_K.moved hvm w1, fun c hc => va_Nw.warmC hW (w2 c hc), fun x hx => va_Z.moved hvm ((w3 x hx).kept hk), fun x hx => (by obtain ⟨a, q1, q2⟩ := w4 x hx; exact ⟨a, q1, vk_R.warm hW q2⟩), ⟨mi, w5, va_Mi.moved hvm w6⟩, ⟨va_AO.moved hvm w7, va_Dc.moved hvm w8, w8b.go hW⟩,
    fun a i b n d h q => va_Nw.warmF hW (w9 a i b n d h q), fun a i x h q => va_Nw.warmM hW (w10 a i x h q), fun C T q => va_Nw.warmC hW (w11 C T q), fun x hx => ⟨(w12 x hx).1, va_Fw.moved (w12 x hx).1 hvm (w12 x hx).2⟩, fun c e h1 h2 h3 h4 h5 => am_Nc_moved (w13 c e h1 h2 h3 h4 h5) hvm,
    ⟨vx_Zq.moved hvm (w14.kept hk), vx_Zq.moved hvm (w15.kept hk)⟩, ⟨w16.moved hvm, w17.moved hvm, w18.moved hvm⟩, Nat.le_trans w19 hz⟩
end
/-! ===== contracts ===== -/
def am_hp (O : am_O) : am_H := match O with
  | .inl (_, h) => h
  | .inr (_, h) => h
def am_Qc (D : va_G) (tc : Nat → ClassId) (bs : Nat) (O : am_O) : Array Value → State → Outcome → State → Prop := fun _ st o t => match O with
  | .inl (v, h) => o = .returned v ∧ am_RP D tc bs t h t.heap ∧ va_F (fun q => bs ≤ q) st t
  | .inr _ => False
def am_Xc (D : va_G) (tc : Nat → ClassId) (bs : Nat) (O : am_O) : String → State → State → Prop := fun E st t => match O with
  | .inl _ => False
  | .inr (c, h) => E = am_nm c ∧ am_RP D tc bs t h t.heap ∧ va_F (fun q => bs ≤ q) st t
def am_Pc (D : va_G) (tc : Nat → ClassId) (G : am_G) (bs : Nat) (As : List Value) (h : am_H) : Array Value → State → Prop := va_Pc As (fun U => am_WS D tc G bs U ∧ am_RP D tc bs U h U.heap)
def am_rm (d : Nat) (h h' : am_H) : Room := { frames := d + 12, cells := h'.2.1 - h.2.1, slots := h'.2.2 - h.2.2, locals := 200 + 40 * d }
def am_MT (l : Launch) (D : va_G) (tc : Nat → ClassId) (G : am_G) (bs : Nat) (y : MethodName) (ws : List Cond) (d : Nat) (As : List Value) (h : am_H) (O : am_O) : Prop :=
  vx_Met l y ws (am_rm d h (am_hp O)) (am_Pc D tc G bs As h) (am_Qc D tc bs O) (am_Xc D tc bs O) ((am_hp O).2.1 - h.2.1) ((am_hp O).2.2 - h.2.2) (fun q => bs ≤ q)
theorem am_blind {D : va_G} {tc : Nat → ClassId} {G : am_G} {bs : Nat} {As : List Value} {h : am_H} : FrameBlind (am_Pc D tc G bs As h) := by
  intro a U g mk q
  obtain ⟨q0, q1, q2⟩ := q
  exact ⟨q0, q1.go (U := U.calling g mk a) (State.WarmedH.refl U) (Nat.le_refl _) (fun _ _ _ => rfl), q2.moved (U := U.calling g mk a) (Vm.Alike.refl U.vm)⟩
/-- an exception over the method's frame -/
def am_XX (p : Program) (l : Launch) (e : Env) (R : Room) (s : State) (m : MethodId) (args : Array Value) (below : List Frame) (meth : Method) (c : Code) (Q : State → Prop) (D : va_G) (tc : Nat → ClassId) (bs sl0 : Nat) (pc : Nat) (L : List Value) (x : Nat) (h : am_H) : Prop :=
  ∀ (H : Heap) (ls : Array Slot) (locs : List Loc) (cells slots : Nat) (rest : List Value) (q : Addr) (ce : Cell), am_RP D tc bs s h H → am_LR ls c.maxLocals L → va_S (fun q => bs ≤ q) s.heap H locs → s.heap.size + cells = h.2.1 → sl0 + slots = h.2.2 → H[q]? = some ce → ce.vm = .none → s.vm.findClass (am_nm x) = some ce.cls → vx_W p l e R s m args below meth c H locs cells slots Q (F0 m pc ls rest) q
section
variable {p : Program} {l : Launch} {e : Env} {R : Room} {s : State} {m : MethodId} {args : Array Value} {below : List Frame} {meth : Method} {c : Code} {Q : State → Prop} {D : va_G} {tc : Nat → ClassId} {G : am_G} {bs sl0 : Nat} {pc nx tg : Nat} {L st : List Value} {h : am_H} {cc : ByteArray} {own : String} {a : Nat}
/-- behind a call -/
def am_AF (p : Program) (l : Launch) (e : Env) (R : Room) (s : State) (m : MethodId) (args : Array Value) (below : List Frame) (meth : Method) (c : Code) (Q : State → Prop) (D : va_G) (tc : Nat → ClassId) (bs sl0 : Nat) (pc nx : Nat) (L rest : List Value) (O : am_O) : Prop := match O with
  | .inl (v, h2) => am_KK p l e R s m args below meth c Q D tc bs sl0 nx L (v.toList ++ rest) h2
  | .inr (x, h2) => am_XX p l e R s m args below meth c Q D tc bs sl0 pc L x h2
theorem kk_run {O : am_O} {st0 rest : List Value} {aa : Array Value} (hb0 : bs ≤ s.heap.size) (h1 : h.2.1 ≤ (am_hp O).2.1) (h2 : h.2.2 ≤ (am_hp O).2.2)
    (hr : ∀ (H : Heap) (ls : Array Slot) (locs : List Loc) (cells slots : Nat), am_RP D tc bs s h H → am_LR ls c.maxLocals L → va_S (fun q => bs ≤ q) s.heap H locs → s.heap.size + cells = h.2.1 → sl0 + slots = h.2.2 →
      vx_Run p l e R s m args below meth c H locs cells slots ((am_hp O).2.1 - h.2.1) ((am_hp O).2.2 - h.2.2) (F0 m pc ls st0) rest (am_Qc D tc bs O aa) (am_Xc D tc bs O) (fun q => bs ≤ q))
    (k : am_AF p l e R s m args below meth c Q D tc bs sl0 pc (pc + 3) L rest O) : am_KK p l e R s m args below meth c Q D tc bs sl0 pc L st0 h := by
  intro H ls locs cells slots r1 r2 r3 r4 r5 T hT X
  rcases hr H ls locs cells slots r1 r2 r3 r4 r5 T hT X with ⟨v, st₀, t, T', L9, h0, X', hL, e1, e2, hq, stp⟩ | ⟨q, st₀, t, T', L9, E, ce, h0, X', hL, e1, e2, hx, hce, hcv, hcl, stp⟩
  · match O, k, hq, h1, h2, X', stp with
    | .inl (v', h9), k, hq, h1, h2, X', stp =>
      obtain ⟨hv, hR, hF⟩ := hq
      cases hv
      obtain ⟨k1, k2, k3⟩ := vx_keep (A0 := fun q => bs ≤ q) (H0 := s.heap) h0 e1 r3 (fun _ _ z => z) (fun _ z => z) hL hF
      have hR' : am_RP D tc bs s h9 T'.heap := by rw [e1]; exact hR.moved (by rw [← e2]; exact X'.warmed.alike.symm)
      obtain ⟨t2, a1, b1⟩ := k T'.heap ls (locs ++ L9) (cells + (h9.2.1 - h.2.1)) (slots + (h9.2.2 - h.2.2)) hR' r2 k3 (by simp only [am_hp] at h1; omega) (by simp only [am_hp] at h2; omega) T' rfl X'
      exact ⟨t2, stp t2 a1, b1⟩
    | .inr _, _, hq, _, _, _, _ => exact hq.elim
  · match O, k, hx, h1, h2, X', stp with
    | .inl _, _, hx, _, _, _, _ => exact hx.elim
    | .inr (x, h9), k, hx, h1, h2, X', stp =>
      obtain ⟨rfl, hR, hF⟩ := hx
      obtain ⟨k1, k2, k3⟩ := vx_keep (A0 := fun q => bs ≤ q) (H0 := s.heap) h0 e1 r3 (fun _ _ z => z) (fun _ z => z) hL hF
      have hR' : am_RP D tc bs s h9 T'.heap := by rw [e1]; exact hR.moved (by rw [← e2]; exact X'.warmed.alike.symm)
      obtain ⟨t2, a1, b1⟩ := k T'.heap ls (locs ++ L9) (cells + (h9.2.1 - h.2.1)) (slots + (h9.2.2 - h.2.2)) rest q ce hR' r2 k3 (by simp only [am_hp] at h1; omega) (by simp only [am_hp] at h2; omega) (by rw [e1]; exact hce) hcv hcl T' rfl X'
      exact ⟨t2, stp.trans a1, b1⟩
theorem am_wd_sum (st : List Value) : (st.map fun v => v.category).sum = am_wd st := by
  induction st with
  | nil => rfl
  | cons v r ih => simp only [List.map_cons, List.sum_cons, am_wd, ih]
theorem am_pre {H : Heap} {locs : List Loc} {As : List Value} (w : am_WS D tc G bs s) (r1 : am_RP D tc bs s h H) (r3 : va_S (fun q => bs ≤ q) s.heap H locs) : PreS s H (am_Pc D tc G bs As h) As :=
  ⟨am_blind, fun U hU hW => ⟨rfl, w.go hW (by rw [hU]; exact r3.1) (fun q h1 h2 => by rw [hU]; exact r3.2.1 q h1 h2), by rw [hU]; exact r1.moved hW.alike⟩⟩
theorem am_preV {H : Heap} {locs : List Loc} {As : List Value} {ca : Nat} {fs : List Value} {C : String} (w : am_WS D tc G bs s) (r1 : am_RP D tc bs s h H) (r3 : va_S (fun q => bs ≤ q) s.heap H locs) (ha : h.1 a = some (.inr (ca, fs))) (hC : am_nm (am_z ca) = C) : PreV s H C a (am_Pc D tc G bs (.ref a :: As) h) As := by
  obtain ⟨cell, g1, g2, g3, g4, -⟩ := r1.obj w.1 ha
  exact ⟨am_blind, ⟨cell, g1, g3, by rw [← hC]; exact g4⟩, (am_pre (As := .ref a :: As) w r1 r3).2⟩
/-- what a call asks of the room -/
theorem am_room {d d' mL : Nat} {h' : am_H} (hd : d' < d) (hm : mL ≤ 21) (hR : d + 12 ≤ R.frames ∧ 200 + 40 * d ≤ R.locals) : (am_rm d' h h').frames + 1 ≤ R.frames ∧ 8 + (mL + 11) + (am_rm d' h h').locals ≤ R.locals := by
  simp only [am_rm]
  omega
/-- a static call -/
theorem kk_invS {O : am_O} {y : MethodName} {bytes : ByteArray} {maxL n index d d' : Nat} {ret : Option FieldType} {As : List Value} (hx : p.tables.exec = Jvm.exec) (hb : c.code = cc) (hown : s.vm.findClass own = some m.cls) (hts : ∀ w ∈ lw_all, w.before args s = true) (w : am_WS D tc G bs s)
    (hT : GoodIn lw_all (va_wsS own index y (ws_ y bytes maxL ret))) (hy : y.cls ≠ "java/lang/invoke/MethodHandle" ∧ y.cls ≠ "java/lang/invoke/VarHandle" ∧ (parseMethodDescriptor y.desc).map (fun d => d.parameters.length) = some n) (hn : As.length = n) (hmL : maxL ≤ 21) (hd : d' < d) (hR : d + 12 ≤ R.frames ∧ 200 + 40 * d ≤ R.locals)
    (hdg : decode cc pc = .ok (.invokestatic index, 3)) (hw : am_wd st ≤ 8) (hM : am_MT l D tc G bs y (ws_ y bytes maxL ret) d' As h O) (h1 : h.2.1 ≤ (am_hp O).2.1) (h2 : h.2.2 ≤ (am_hp O).2.2) (hRc : (am_hp O).2.1 ≤ s.heap.size + R.cells ∧ (am_hp O).2.2 ≤ sl0 + R.slots)
    (k : am_AF p l e R s m args below meth c Q D tc bs sl0 pc (pc + 3) L st O) : am_KK p l e R s m args below meth c Q D tc bs sl0 pc L (As.reverse ++ st) h :=
  kk_run w.2.2.2.2.2.2.2.2.2.2.2.2.2 h1 h2 (fun H ls locs cells slots r1 r2 r3 r4 r5 => vx_runS ⟨hx, hb, rfl, hown, hts⟩ hM (va_cwS n hts hT rfl rfl rfl hy (am_room hd hmL hR)) (am_pre w r1 r3) rfl hn r2.size rfl (lv_room (by rw [am_wd_sum]; exact hw)) hdg ⟨by omega, by omega⟩) k
theorem kk_invV {O : am_O} {y : MethodName} {bytes : ByteArray} {maxL n index d d' : Nat} {ret : Option FieldType} {As : List Value} (hx : p.tables.exec = Jvm.exec) (hb : c.code = cc) (hown : s.vm.findClass own = some m.cls) (hts : ∀ w ∈ lw_all, w.before args s = true) (w : am_WS D tc G bs s)
    {ca : Nat} {fs : List Value} {C : String} (ha : h.1 a = some (.inr (ca, fs))) (hC : am_nm (am_z ca) = C) (hT : GoodIn lw_all (wsV own index C y (ws_ y bytes maxL ret))) (hy : y.cls = C ∧ y.cls ≠ "java/lang/invoke/MethodHandle" ∧ y.cls ≠ "java/lang/invoke/VarHandle" ∧ (parseMethodDescriptor y.desc).map (fun d => d.parameters.length) = some n) (hn : As.length = n) (hmL : maxL ≤ 21) (hd : d' < d) (hR : d + 12 ≤ R.frames ∧ 200 + 40 * d ≤ R.locals)
    (hdg : decode cc pc = .ok (.invokevirtual index, 3)) (hw : am_wd st ≤ 8) (hM : am_MT l D tc G bs y (ws_ y bytes maxL ret) d' (.ref a :: As) h O) (h1 : h.2.1 ≤ (am_hp O).2.1) (h2 : h.2.2 ≤ (am_hp O).2.2) (hRc : (am_hp O).2.1 ≤ s.heap.size + R.cells ∧ (am_hp O).2.2 ≤ sl0 + R.slots)
    (k : am_AF p l e R s m args below meth c Q D tc bs sl0 pc (pc + 3) L st O) : am_KK p l e R s m args below meth c Q D tc bs sl0 pc L (As.reverse ++ .ref a :: st) h :=
  kk_run w.2.2.2.2.2.2.2.2.2.2.2.2.2 h1 h2 (fun H ls locs cells slots r1 r2 r3 r4 r5 => vx_runV ⟨hx, hb, rfl, hown, hts⟩ hM (cwV n hts hT rfl rfl rfl hy (am_room hd hmL hR)) (am_preV w r1 r3 ha hC) rfl hn r2.size rfl (lv_room (by rw [am_wd_sum]; exact hw)) hdg ⟨by omega, by omega⟩) k
theorem kk_invI {O : am_O} {y : MethodName} {bytes : ByteArray} {maxL n index d d' : Nat} {As : List Value} (hx : p.tables.exec = Jvm.exec) (hb : c.code = cc) (hown : s.vm.findClass own = some m.cls) (hts : ∀ w ∈ lw_all, w.before args s = true) (w : am_WS D tc G bs s)
    (hG : GoodIn lw_all (ws_ y bytes maxL none)) (hini : (Cond.initialized y.cls) ∈ lw_all) (hl : (Cond.methodLink own index y) ∈ lw_all) (hin : (Cond.instanceMethod y) ∈ lw_all) (hy1 : y.name = "<init>") (hy : y.cls ≠ "java/lang/invoke/MethodHandle" ∧ y.cls ≠ "java/lang/invoke/VarHandle" ∧ (parseMethodDescriptor y.desc).map (fun d => d.parameters.length) = some n) (hn : As.length = n) (hmL : maxL ≤ 21) (hd : d' < d) (hR : d + 12 ≤ R.frames ∧ 200 + 40 * d ≤ R.locals)
    (hdg : decode cc pc = .ok (.invokespecial index, 3)) (hw : am_wd st ≤ 8) (hM : am_MT l D tc G bs y (ws_ y bytes maxL none) d' (.ref a :: As) h O) (h1 : h.2.1 ≤ (am_hp O).2.1) (h2 : h.2.2 ≤ (am_hp O).2.2) (hRc : (am_hp O).2.1 ≤ s.heap.size + R.cells ∧ (am_hp O).2.2 ≤ sl0 + R.slots)
    (k : am_AF p l e R s m args below meth c Q D tc bs sl0 pc (pc + 3) L st O) : am_KK p l e R s m args below meth c Q D tc bs sl0 pc L (As.reverse ++ .ref a :: st) h :=
  kk_run w.2.2.2.2.2.2.2.2.2.2.2.2.2 h1 h2 (fun H ls locs cells slots r1 r2 r3 r4 r5 => vx_runI ⟨hx, hb, rfl, hown, hts⟩ hM (cwI n hts hG rfl rfl rfl (hts _ hini) (hts _ hl) (hts _ hin) hy1 hy (am_room hd hmL hR)) (am_pre w r1 r3) rfl hn r2.size rfl (lv_room (by rw [am_wd_sum]; exact hw)) hdg ⟨by omega, by omega⟩) k
theorem kk_invIN {O : am_O} {y : MethodName} {bytes : ByteArray} {maxL n index d d' : Nat} {host : String} {As : List Value} (hx : p.tables.exec = Jvm.exec) (hb : c.code = cc) (hown : s.vm.findClass own = some m.cls) (hts : ∀ w ∈ lw_all, w.before args s = true) (w : am_WS D tc G bs s)
    (hG : GoodIn lw_all (ws_ y bytes maxL none)) (hini : (Cond.initialized y.cls) ∈ lw_all) (hl : Cond.methodLinkNest own index y host ∈ am_nw) (hin : (Cond.instanceMethod y) ∈ lw_all) (hy1 : y.name = "<init>") (hy : y.cls ≠ "java/lang/invoke/MethodHandle" ∧ y.cls ≠ "java/lang/invoke/VarHandle" ∧ (parseMethodDescriptor y.desc).map (fun d => d.parameters.length) = some n) (hn : As.length = n) (hmL : maxL ≤ 21) (hd : d' < d) (hR : d + 12 ≤ R.frames ∧ 200 + 40 * d ≤ R.locals)
    (hdg : decode cc pc = .ok (.invokespecial index, 3)) (hw : am_wd st ≤ 8) (hM : am_MT l D tc G bs y (ws_ y bytes maxL none) d' (.ref a :: As) h O) (h1 : h.2.1 ≤ (am_hp O).2.1) (h2 : h.2.2 ≤ (am_hp O).2.2) (hRc : (am_hp O).2.1 ≤ s.heap.size + R.cells ∧ (am_hp O).2.2 ≤ sl0 + R.slots)
    (k : am_AF p l e R s m args below meth c Q D tc bs sl0 pc (pc + 3) L st O) : am_KK p l e R s m args below meth c Q D tc bs sl0 pc L (As.reverse ++ .ref a :: st) h :=
  kk_run w.2.2.2.2.2.2.2.2.2.2.2.2.2 h1 h2 (fun H ls locs cells slots r1 r2 r3 r4 r5 => vx_runIN ⟨hx, hb, rfl, hown, hts⟩ hM ⟨va_cnB n hts hG rfl rfl rfl (w.2.2.2.2.2.2.2.1 _ _ _ _ hl) (hts _ hini) hy (am_room hd hmL hR), hy1, hts _ hin⟩ (am_pre w r1 r3) rfl hn r2.size rfl (lv_room (by rw [am_wd_sum]; exact hw)) hdg ⟨by omega, by omega⟩) k
theorem kk_invVN {O : am_O} {y : MethodName} {bytes : ByteArray} {maxL n index d d' : Nat} {ret : Option FieldType} {As : List Value} {host : String} (hx : p.tables.exec = Jvm.exec) (hb : c.code = cc) (hown : s.vm.findClass own = some m.cls) (hts : ∀ w ∈ lw_all, w.before args s = true) (w : am_WS D tc G bs s)
    {ca : Nat} {fs : List Value} {C : String} (ha : h.1 a = some (.inr (ca, fs))) (hC : am_nm (am_z ca) = C) (hG : GoodIn lw_all (ws_ y bytes maxL ret)) (hini : (Cond.initialized y.cls) ∈ lw_all) (hl : Cond.methodLinkNest own index y host ∈ am_nw) (hin : (Cond.instanceMethod y) ∈ lw_all) (hse : (Cond.selects C y y) ∈ lw_all) (hy : y.cls ≠ "java/lang/invoke/MethodHandle" ∧ y.cls ≠ "java/lang/invoke/VarHandle" ∧ (parseMethodDescriptor y.desc).map (fun d => d.parameters.length) = some n) (hn : As.length = n) (hmL : maxL ≤ 21) (hd : d' < d) (hR : d + 12 ≤ R.frames ∧ 200 + 40 * d ≤ R.locals)
    (hdg : decode cc pc = .ok (.invokevirtual index, 3)) (hw : am_wd st ≤ 8) (hM : am_MT l D tc G bs y (ws_ y bytes maxL ret) d' (.ref a :: As) h O) (h1 : h.2.1 ≤ (am_hp O).2.1) (h2 : h.2.2 ≤ (am_hp O).2.2) (hRc : (am_hp O).2.1 ≤ s.heap.size + R.cells ∧ (am_hp O).2.2 ≤ sl0 + R.slots)
    (k : am_AF p l e R s m args below meth c Q D tc bs sl0 pc (pc + 3) L st O) : am_KK p l e R s m args below meth c Q D tc bs sl0 pc L (As.reverse ++ .ref a :: st) h :=
  kk_run w.2.2.2.2.2.2.2.2.2.2.2.2.2 h1 h2 (fun H ls locs cells slots r1 r2 r3 r4 r5 => vx_runVN ⟨hx, hb, rfl, hown, hts⟩ hM ⟨va_cnB n hts hG rfl rfl rfl (w.2.2.2.2.2.2.2.1 _ _ _ _ hl) (hts _ hini) hy (am_room hd hmL hR), hts _ hin, hts _ hse⟩ (am_preV w r1 r3 ha hC) rfl hn r2.size rfl (lv_room (by rw [am_wd_sum]; exact hw)) hdg ⟨by omega, by omega⟩) k
theorem kk_invSN {O : am_O} {y : MethodName} {bytes : ByteArray} {maxL n index d d' : Nat} {ret : Option FieldType} {As : List Value} {host : String} (hx : p.tables.exec = Jvm.exec) (hb : c.code = cc) (hown : s.vm.findClass own = some m.cls) (hts : ∀ w ∈ lw_all, w.before args s = true) (w : am_WS D tc G bs s)
    (hG : GoodIn lw_all (ws_ y bytes maxL ret)) (hini : (Cond.initialized y.cls) ∈ lw_all) (hl : Cond.methodLinkNest own index y host ∈ am_nw) (hst : (Cond.static y) ∈ lw_all) (hy : y.cls ≠ "java/lang/invoke/MethodHandle" ∧ y.cls ≠ "java/lang/invoke/VarHandle" ∧ (parseMethodDescriptor y.desc).map (fun d => d.parameters.length) = some n) (hn : As.length = n) (hmL : maxL ≤ 21) (hd : d' < d) (hR : d + 12 ≤ R.frames ∧ 200 + 40 * d ≤ R.locals)
    (hdg : decode cc pc = .ok (.invokestatic index, 3)) (hw : am_wd st ≤ 8) (hM : am_MT l D tc G bs y (ws_ y bytes maxL ret) d' (As) h O) (h1 : h.2.1 ≤ (am_hp O).2.1) (h2 : h.2.2 ≤ (am_hp O).2.2) (hRc : (am_hp O).2.1 ≤ s.heap.size + R.cells ∧ (am_hp O).2.2 ≤ sl0 + R.slots)
    (k : am_AF p l e R s m args below meth c Q D tc bs sl0 pc (pc + 3) L st O) : am_KK p l e R s m args below meth c Q D tc bs sl0 pc L (As.reverse ++ st) h :=
  kk_run w.2.2.2.2.2.2.2.2.2.2.2.2.2 h1 h2 (fun H ls locs cells slots r1 r2 r3 r4 r5 => vx_runSN ⟨hx, hb, rfl, hown, hts⟩ hM ⟨va_cnB n hts hG rfl rfl rfl (w.2.2.2.2.2.2.2.1 _ _ _ _ hl) (hts _ hini) hy (am_room hd hmL hR), hts _ hst, trivial⟩ (am_pre w r1 r3) rfl hn r2.size rfl (lv_room (by rw [am_wd_sum]; exact hw)) hdg ⟨by omega, by omega⟩) k
theorem kk_invSX {O : am_O} {y : MethodName} {bytes : ByteArray} {maxL n index d d' : Nat} {ret : Option FieldType} {As : List Value} {hh : List (Nat × Nat × Nat × Nat)} (hx : p.tables.exec = Jvm.exec) (hb : c.code = cc) (hown : s.vm.findClass own = some m.cls) (hts : ∀ w ∈ lw_all, w.before args s = true) (w : am_WS D tc G bs s)
    (hT : GoodIn lw_all (va_wsS own index y (wsW_ y bytes maxL ret hh))) (hy : y.cls ≠ "java/lang/invoke/MethodHandle" ∧ y.cls ≠ "java/lang/invoke/VarHandle" ∧ (parseMethodDescriptor y.desc).map (fun d => d.parameters.length) = some n) (hn : As.length = n) (hmL : maxL ≤ 21) (hd : d' < d) (hR : d + 12 ≤ R.frames ∧ 200 + 40 * d ≤ R.locals)
    (hdg : decode cc pc = .ok (.invokestatic index, 3)) (hw : am_wd st ≤ 8) (hM : am_MT l D tc G bs y (wsW_ y bytes maxL ret hh) d' (As) h O) (h1 : h.2.1 ≤ (am_hp O).2.1) (h2 : h.2.2 ≤ (am_hp O).2.2) (hRc : (am_hp O).2.1 ≤ s.heap.size + R.cells ∧ (am_hp O).2.2 ≤ sl0 + R.slots)
    (k : am_AF p l e R s m args below meth c Q D tc bs sl0 pc (pc + 3) L st O) : am_KK p l e R s m args below meth c Q D tc bs sl0 pc L (As.reverse ++ st) h :=
  kk_run w.2.2.2.2.2.2.2.2.2.2.2.2.2 h1 h2 (fun H ls locs cells slots r1 r2 r3 r4 r5 => vx_runSX ⟨hx, hb, rfl, hown, hts⟩ hM (vx_cwSW n hts hT rfl rfl rfl hy (am_room hd hmL hR)) (am_pre w r1 r3) rfl hn r2.size rfl (lv_room (by rw [am_wd_sum]; exact hw)) hdg ⟨by omega, by omega⟩) k
theorem kk_invVX {O : am_O} {y : MethodName} {bytes : ByteArray} {maxL n index d d' : Nat} {ret : Option FieldType} {As : List Value} {hh : List (Nat × Nat × Nat × Nat)} (hx : p.tables.exec = Jvm.exec) (hb : c.code = cc) (hown : s.vm.findClass own = some m.cls) (hts : ∀ w ∈ lw_all, w.before args s = true) (w : am_WS D tc G bs s)
    {ca : Nat} {fs : List Value} {C : String} (ha : h.1 a = some (.inr (ca, fs))) (hC : am_nm (am_z ca) = C) (hT : GoodIn lw_all (wsV own index C y (wsW_ y bytes maxL ret hh))) (hy : y.cls = C ∧ y.cls ≠ "java/lang/invoke/MethodHandle" ∧ y.cls ≠ "java/lang/invoke/VarHandle" ∧ (parseMethodDescriptor y.desc).map (fun d => d.parameters.length) = some n) (hn : As.length = n) (hmL : maxL ≤ 21) (hd : d' < d) (hR : d + 12 ≤ R.frames ∧ 200 + 40 * d ≤ R.locals)
    (hdg : decode cc pc = .ok (.invokevirtual index, 3)) (hw : am_wd st ≤ 8) (hM : am_MT l D tc G bs y (wsW_ y bytes maxL ret hh) d' (.ref a :: As) h O) (h1 : h.2.1 ≤ (am_hp O).2.1) (h2 : h.2.2 ≤ (am_hp O).2.2) (hRc : (am_hp O).2.1 ≤ s.heap.size + R.cells ∧ (am_hp O).2.2 ≤ sl0 + R.slots)
    (k : am_AF p l e R s m args below meth c Q D tc bs sl0 pc (pc + 3) L st O) : am_KK p l e R s m args below meth c Q D tc bs sl0 pc L (As.reverse ++ .ref a :: st) h :=
  kk_run w.2.2.2.2.2.2.2.2.2.2.2.2.2 h1 h2 (fun H ls locs cells slots r1 r2 r3 r4 r5 => vx_runVX ⟨hx, hb, rfl, hown, hts⟩ hM (vx_cwVW n hts hT rfl rfl rfl hy (am_room hd hmL hR)) (am_preV w r1 r3 ha hC) rfl hn r2.size rfl (lv_room (by rw [am_wd_sum]; exact hw)) hdg ⟨by omega, by omega⟩) k
theorem kk_invU {O : am_O} {y : MethodName} {bytes : ByteArray} {maxL n index d d' : Nat} {ret : Option FieldType} {As : List Value} {x : MethodName} {owner : String} (hx : p.tables.exec = Jvm.exec) (hb : c.code = cc) (hown : s.vm.findClass own = some m.cls) (hts : ∀ w ∈ lw_all, w.before args s = true) (w : am_WS D tc G bs s)
    {ca : Nat} {fs : List Value} {C : String} (ha : h.1 a = some (.inr (ca, fs))) (hC : am_nm (am_z ca) = C) (hT : GoodIn lw_all (va_wsU own index C owner x y (ws_ y bytes maxL ret))) (hyx : y = ⟨owner, x.name, x.desc⟩) (hy : owner ≠ "java/lang/invoke/MethodHandle" ∧ owner ≠ "java/lang/invoke/VarHandle" ∧ (parseMethodDescriptor x.desc).map (fun d => d.parameters.length) = some n) (hn : As.length = n) (hmL : maxL ≤ 21) (hd : d' < d) (hR : d + 12 ≤ R.frames ∧ 200 + 40 * d ≤ R.locals)
    (hdg : decode cc pc = .ok (.invokevirtual index, 3)) (hw : am_wd st ≤ 8) (hM : am_MT l D tc G bs y (ws_ y bytes maxL ret) d' (.ref a :: As) h O) (h1 : h.2.1 ≤ (am_hp O).2.1) (h2 : h.2.2 ≤ (am_hp O).2.2) (hRc : (am_hp O).2.1 ≤ s.heap.size + R.cells ∧ (am_hp O).2.2 ≤ sl0 + R.slots)
    (k : am_AF p l e R s m args below meth c Q D tc bs sl0 pc (pc + 3) L st O) : am_KK p l e R s m args below meth c Q D tc bs sl0 pc L (As.reverse ++ .ref a :: st) h :=
  kk_run w.2.2.2.2.2.2.2.2.2.2.2.2.2 h1 h2 (fun H ls locs cells slots r1 r2 r3 r4 r5 => vx_runU ⟨hx, hb, rfl, hown, hts⟩ hM (va_cwU n hts hT rfl rfl rfl hyx hy (am_room hd hmL hR)) (am_preV w r1 r3 ha hC) rfl hn r2.size rfl (lv_room (by rw [am_wd_sum]; exact hw)) hdg ⟨by omega, by omega⟩) k
theorem kk_invSU {O : am_O} {y : MethodName} {bytes : ByteArray} {maxL n index d d' : Nat} {ret : Option FieldType} {As : List Value} {cC : ClassId} (hx : p.tables.exec = Jvm.exec) (hb : c.code = cc) (hown : s.vm.findClass own = some m.cls) (hts : ∀ w ∈ lw_all, w.before args s = true) (w : am_WS D tc G bs s)
    {ca : Nat} {fs : List Value} {C : String} (ha : h.1 a = some (.inr (ca, fs))) (hC : am_nm (am_z ca) = C) (hat : ClassAt s C cC) (hT : GoodIn lw_all (va_wsSU own index y (ws_ y bytes maxL ret))) (hy : y.name ≠ "<init>" ∧ (parseMethodDescriptor y.desc).map (fun d => d.parameters.length) = some n) (hn : As.length = n) (hmL : maxL ≤ 21) (hd : d' < d) (hR : d + 12 ≤ R.frames ∧ 200 + 40 * d ≤ R.locals)
    (hdg : decode cc pc = .ok (.invokespecial index, 3)) (hw : am_wd st ≤ 8) (hM : am_MT l D tc G bs y (ws_ y bytes maxL ret) d' (.ref a :: As) h O) (h1 : h.2.1 ≤ (am_hp O).2.1) (h2 : h.2.2 ≤ (am_hp O).2.2) (hRc : (am_hp O).2.1 ≤ s.heap.size + R.cells ∧ (am_hp O).2.2 ≤ sl0 + R.slots)
    (k : am_AF p l e R s m args below meth c Q D tc bs sl0 pc (pc + 3) L st O) : am_KK p l e R s m args below meth c Q D tc bs sl0 pc L (As.reverse ++ .ref a :: st) h :=
  kk_run w.2.2.2.2.2.2.2.2.2.2.2.2.2 h1 h2 (fun H ls locs cells slots r1 r2 r3 r4 r5 => vx_runSU hat ⟨hx, hb, rfl, hown, hts⟩ hM (va_cwSU n hts hT rfl rfl rfl hy (am_room hd hmL hR)) (am_preV w r1 r3 ha hC) rfl hn r2.size rfl (lv_room (by rw [am_wd_sum]; exact hw)) hdg ⟨by omega, by omega⟩) k
theorem am_XQ {O : am_O} {H : Heap} {locs : List Loc} {cells slots : Nat} (r3 : va_S (fun q => bs ≤ q) s.heap H locs) : ∀ z ∈ locs, bs ≤ z.base := r3.2.2
/-- what a frame that ends with O owes -/
abbrev am_Q (D : va_G) (tc : Nat → ClassId) (bs sl0 : Nat) (below : List Frame) (args : Array Value) (s : State) (O : am_O) : State → Prop := vx_MQ below (am_Qc D tc bs O) (am_Xc D tc bs O) args s ((am_hp O).2.1 - s.heap.size) ((am_hp O).2.2 - sl0) (fun q => bs ≤ q)
theorem am_qc {H : Heap} {locs : List Loc} {v : Option Value} {O : am_O} (hO : O = .inl (v, h)) (r1 : am_RP D tc bs s h H) (r3 : va_S (fun q => bs ≤ q) s.heap H locs) : ∀ t : State, t.heap = H → s.WarmedH t.vm → am_Qc D tc bs O args s (.returned v) t := by
  subst hO
  intro t ht hW
  exact ⟨rfl, by rw [ht]; exact r1.moved hW.alike, r3.F ht⟩
theorem kk_zret {v : Int32} {ty : FieldType} (hx : p.tables.exec = Jvm.exec) (hb : c.code = cc) (hr : meth.sig.returnType = some ty) (hlocks : meth.locks = false) (hn : narrow ty (.int v) = .int v) (hd : decode cc pc = .ok (.ireturn, 1)) {O : am_O} (hO : O = .inl (some (.int v), h)) :
    am_KK p l e R s m args below meth c (am_Q D tc bs sl0 below args s O) D tc bs sl0 pc L [.int v] h := by
  intro H ls locs cells slots r1 r2 r3 r4 r5
  refine vx_ret (W.widen (k := (am_hp O).2.1 - s.heap.size) (n := (am_hp O).2.2 - sl0) (by rw [hO]; simp only [am_hp]; omega) (by rw [hO]; simp only [am_hp]; omega) ?_)
  exact W.zret hx hb hr hn (am_qc hO r1 r3) r3.2.2 hd hlocks
theorem kk_vret (hx : p.tables.exec = Jvm.exec) (hb : c.code = cc) (hr : meth.sig.returnType = none) (hlocks : meth.locks = false) (hd : decode cc pc = .ok (.return_, 1)) {O : am_O} (hO : O = .inl (none, h)) :
    am_KK p l e R s m args below meth c (am_Q D tc bs sl0 below args s O) D tc bs sl0 pc L [] h := by
  intro H ls locs cells slots r1 r2 r3 r4 r5
  refine vx_ret (W.widen (k := (am_hp O).2.1 - s.heap.size) (n := (am_hp O).2.2 - sl0) (by rw [hO]; simp only [am_hp]; omega) (by rw [hO]; simp only [am_hp]; omega) ?_)
  exact W.vret hx hb hr (am_qc hO r1 r3) r3.2.2 hd hlocks
theorem kk_aret {v : Value} {rt : FieldType} (hx : p.tables.exec = Jvm.exec) (hb : c.code = cc) (hr : meth.sig.returnType = some rt) (hrt : (∃ n, rt = .object n) ∨ ∃ t, rt = .array t) (hv : v = .null ∨ ∃ a, v = .ref a) (hlocks : meth.locks = false) (hd : decode cc pc = .ok (.areturn, 1)) {O : am_O} (hO : O = .inl (some v, h)) :
    am_KK p l e R s m args below meth c (am_Q D tc bs sl0 below args s O) D tc bs sl0 pc L [v] h := by
  intro H ls locs cells slots r1 r2 r3 r4 r5
  refine vx_ret (W.widen (k := (am_hp O).2.1 - s.heap.size) (n := (am_hp O).2.2 - sl0) (by rw [hO]; simp only [am_hp]; omega) (by rw [hO]; simp only [am_hp]; omega) ?_)
  exact W.aret hx hb hr hrt hv (am_qc hO r1 r3) r3.2.2 hd hlocks
/-- athrow of an object whose class is known -/
theorem kk_athrow {x : Nat} {fs : List Value} (hx : p.tables.exec = Jvm.exec) (hb : c.code = cc) (w : am_WS D tc G bs s) (hd : decode cc pc = .ok (.athrow, 1)) (ha : h.1 a = some (.inr (x, fs))) (hx1 : x < 100) (k : am_XX p l e R s m args below meth c Q D tc bs sl0 pc L x h) : am_KK p l e R s m args below meth c Q D tc bs sl0 pc L (.ref a :: st) h := by
  intro H ls locs cells slots r1 r2 r3 r4 r5
  obtain ⟨ws, hP, -, hw⟩ := r1.2.1
  obtain ⟨k1, hk1⟩ := hw a _ ha (am_blef hx1)
  obtain ⟨rr, g0, cell, g1, g2, g3, -⟩ := hP k1 _ hk1
  obtain ⟨cell', f1, -, -, f4, -⟩ := r1.obj w.1 ha
  cases f1.symm.trans g1
  rw [show am_z x = x from if_pos hx1] at f4
  exact vx_athrow hx hb hd (k H ls locs cells slots st a _ r1 r2 r3 r4 r5 g1 g3 f4)
theorem kk_run5 {O : am_O} {st0 rest : List Value} {aa : Array Value} (hb0 : bs ≤ s.heap.size) (h1 : h.2.1 ≤ (am_hp O).2.1) (h2 : h.2.2 ≤ (am_hp O).2.2)
    (hr : ∀ (H : Heap) (ls : Array Slot) (locs : List Loc) (cells slots : Nat), am_RP D tc bs s h H → am_LR ls c.maxLocals L → va_S (fun q => bs ≤ q) s.heap H locs → s.heap.size + cells = h.2.1 → sl0 + slots = h.2.2 →
      vx_Run5 p l e R s m args below meth c H locs cells slots ((am_hp O).2.1 - h.2.1) ((am_hp O).2.2 - h.2.2) (F0 m pc ls st0) rest (am_Qc D tc bs O aa) (am_Xc D tc bs O) (fun q => bs ≤ q))
    (k : am_AF p l e R s m args below meth c Q D tc bs sl0 pc (pc + 5) L rest O) : am_KK p l e R s m args below meth c Q D tc bs sl0 pc L st0 h := by
  intro H ls locs cells slots r1 r2 r3 r4 r5 T hT X
  rcases hr H ls locs cells slots r1 r2 r3 r4 r5 T hT X with ⟨v, st₀, t, T', L9, h0, X', hL, e1, e2, hq, stp⟩ | ⟨q, st₀, t, T', L9, E, ce, h0, X', hL, e1, e2, hx, hce, hcv, hcl, stp⟩
  · match O, k, hq, h1, h2, X', stp with
    | .inl (v', h9), k, hq, h1, h2, X', stp =>
      obtain ⟨hv, hR, hF⟩ := hq
      cases hv
      obtain ⟨k1, k2, k3⟩ := vx_keep (A0 := fun q => bs ≤ q) (H0 := s.heap) h0 e1 r3 (fun _ _ z => z) (fun _ z => z) hL hF
      have hR' : am_RP D tc bs s h9 T'.heap := by rw [e1]; exact hR.moved (by rw [← e2]; exact X'.warmed.alike.symm)
      obtain ⟨t2, a1, b1⟩ := k T'.heap ls (locs ++ L9) (cells + (h9.2.1 - h.2.1)) (slots + (h9.2.2 - h.2.2)) hR' r2 k3 (by simp only [am_hp] at h1; omega) (by simp only [am_hp] at h2; omega) T' rfl X'
      exact ⟨t2, stp t2 a1, b1⟩
    | .inr _, _, hq, _, _, _, _ => exact hq.elim
  · match O, k, hx, h1, h2, X', stp with
    | .inl _, _, hx, _, _, _, _ => exact hx.elim
    | .inr (x, h9), k, hx, h1, h2, X', stp =>
      obtain ⟨rfl, hR, hF⟩ := hx
      obtain ⟨k1, k2, k3⟩ := vx_keep (A0 := fun q => bs ≤ q) (H0 := s.heap) h0 e1 r3 (fun _ _ z => z) (fun _ z => z) hL hF
      have hR' : am_RP D tc bs s h9 T'.heap := by rw [e1]; exact hR.moved (by rw [← e2]; exact X'.warmed.alike.symm)
      obtain ⟨t2, a1, b1⟩ := k T'.heap ls (locs ++ L9) (cells + (h9.2.1 - h.2.1)) (slots + (h9.2.2 - h.2.2)) rest q ce hR' r2 k3 (by simp only [am_hp] at h1; omega) (by simp only [am_hp] at h2; omega) (by rw [e1]; exact hce) hcv hcl T' rfl X'
      exact ⟨t2, stp.trans a1, b1⟩
theorem kk_invF {O : am_O} {x y : MethodName} {bytes : ByteArray} {maxL n index count d d' : Nat} {ret : Option FieldType} {As : List Value} {cC : ClassId} (hx : p.tables.exec = Jvm.exec) (hb : c.code = cc) (hown : s.vm.findClass own = some m.cls) (hts : ∀ w ∈ lw_all, w.before args s = true) (w : am_WS D tc G bs s)
    {ca : Nat} {fs : List Value} {C : String} (ha : h.1 a = some (.inr (ca, fs))) (hC : am_nm (am_z ca) = C) (hat : ClassAt s C cC) (hT : GoodIn lw_all (va_wsF own index C x y (ws_ y bytes maxL ret))) (hfw : (C, x, y) ∈ am_fw) (hy : x.cls ≠ "java/lang/invoke/MethodHandle" ∧ x.cls ≠ "java/lang/invoke/VarHandle" ∧ (parseMethodDescriptor x.desc).map (fun d => d.parameters.length) = some n)
    (hn : As.length = n) (hmL : maxL ≤ 21) (hd : d' < d) (hR : d + 12 ≤ R.frames ∧ 200 + 40 * d ≤ R.locals)
    (hdg : decode cc pc = .ok (.invokeinterface index count, 5)) (hw : am_wd st ≤ 8) (hM : am_MT l D tc G bs y (ws_ y bytes maxL ret) d' (.ref a :: As) h O) (h1 : h.2.1 ≤ (am_hp O).2.1) (h2 : h.2.2 ≤ (am_hp O).2.2) (hRc : (am_hp O).2.1 ≤ s.heap.size + R.cells ∧ (am_hp O).2.2 ≤ sl0 + R.slots)
    (k : am_AF p l e R s m args below meth c Q D tc bs sl0 pc (pc + 5) L st O) : am_KK p l e R s m args below meth c Q D tc bs sl0 pc L (As.reverse ++ .ref a :: st) h :=
  kk_run5 w.2.2.2.2.2.2.2.2.2.2.2.2.2 h1 h2 (fun H ls locs cells slots r1 r2 r3 r4 r5 => vx_runF hat ⟨hx, hb, rfl, hown, hts⟩ hM (va_cwF n hts hT rfl rfl rfl (w.2.2.2.2.2.2.2.2.2.1 _ hfw).2 hy (am_room hd hmL hR)) (am_preV w r1 r3 ha hC) rfl hn r2.size rfl (lv_room (by rw [am_wd_sum]; exact hw)) hdg ⟨by omega, by omega⟩) k
/-- 'throw new E()': new; dup; invokespecial; athrow: after the kit's vx_throw0, with the heap's size -/
theorem kk_thr {ik ic x : Nat} {cls : String} {names : List String} {d : Nat} (hx : p.tables.exec = Jvm.exec) (hb : c.code = cc) (hl : l.stackTraces = false) (hown : s.vm.findClass own = some m.cls) (hcls : Bundle.fit cls = true) (hnames : ∀ n ∈ names, Bundle.fit n = true) (w : am_WS D tc G bs s)
    (hk : (Cond.classLink own ik cls).before args s = true) (hini : (Cond.initialized cls).before args s = true) (hat : ∀ w ∈ vx_at0 own ic cls names, w.before args s = true)
    (hgood : ∀ w ∈ Cond.classLink own ik cls :: Cond.initialized cls :: vx_at0 own ic cls names, vx_ot w = true) (hnm : am_nm x = cls)
    (d0 : decode cc pc = .ok (.new ik, 3)) (d3 : decode cc (pc + 3) = .ok (.dup, 1)) (d4 : decode cc (pc + 4) = .ok (.invokespecial ic, 3)) (d7 : decode cc (pc + 7) = .ok (.athrow, 1))
    (hout : ∀ x ∈ c.exceptionTable.toList, covers x (pc + 7) = false) (hnl : names.length ≤ 6) (hst : am_wd st ≤ 8) (hR : d + 12 ≤ R.frames ∧ 200 + 40 * d ≤ R.locals) (hRc : h.2.1 + 1 ≤ s.heap.size + R.cells ∧ h.2.2 + 6 ≤ sl0 + R.slots) (hlocks : meth.locks = false) {O : am_O} (hO : O = .inr (x, am_skip h 6)) :
    am_KK p l e R s m args below meth c (am_Q D tc bs sl0 below args s O) D tc bs sl0 pc L st h := by
  intro H ls locs cells slots r1 r2 r3 r4 r5
  obtain ⟨hU, hN⟩ := w.2.2.2.2.2.2.2.2.2.2.2.1
  have hbs := w.2.2.2.2.2.2.2.2.2.2.2.2.2
  have hRf : names.length + 3 < R.frames := by omega
  have hRl : (st.map fun v => v.category).sum + (13 * (names.length + 1) + 42) ≤ R.locals := by rw [am_wd_sum]; omega
  have hRcells : cells + 1 ≤ R.cells := by omega
  have hRslots : slots + 6 ≤ R.slots := by omega
  have hS := r3
  have hsize := r2.size
  intro T hT X
  have htr : e.platform.stackTraces = false := (show e.platform.stackTraces = l.stackTraces by rw [X.admits.platform]).trans hl
  have Y := vx_rebase X (R' := { frames := R.frames, locals := R.locals, cells := 1, slots := 6 }) (Nat.le_refl _) (Nat.le_refl _) hRcells hRslots
  obtain ⟨s', hA⟩ : ∃ z, z = (T.setVm s.vm).setFrames (.invoking m args :: below) := ⟨_, rfl⟩
  rw [← hA] at Y
  have hvm : s'.vm = s.vm := by rw [hA]; rfl
  have hhp : s'.heap = H := by rw [hA]; exact hT
  have hW0 : s.WarmedH s'.vm := by rw [hvm]; exact State.WarmedH.refl s
  have hat' : ∀ w ∈ vx_at0 own ic cls names, w.before args s' = true := fun w hw => vx_ot_at hW0 hvm.symm (hgood w (List.mem_cons_of_mem _ (List.mem_cons_of_mem _ hw))) (hat w hw)
  have hk' : (Cond.classLink own ik cls).before args s' = true := vx_ot_at hW0 hvm.symm (hgood _ List.mem_cons_self) hk
  have hini' : (Cond.initialized cls).before args s' = true := vx_ot_at hW0 hvm.symm (hgood _ (List.mem_cons_of_mem _ List.mem_cons_self)) hini
  have hU' : vx_Zq Bundle.tN "UNASSIGNED_STACK" Bundle.steD (fun q => bs ≤ q) s' s'.heap := by rw [hhp]; exact vx_Zq.moved hW0.alike (hU.kept hS.2.1)
  have hN' : vx_Zq Bundle.tN "SUPPRESSED_SENTINEL" Bundle.listD (fun q => bs ≤ q) s' s'.heap := by rw [hhp]; exact vx_Zq.moved hW0.alike (hN.kept hS.2.1)
  have hh : ∀ w ∈ Bundle.ownAtoms0 own ic cls names, w.before args s' = true := vx_own hat' (vx_isRefq hU'.1) (vx_isRefq hN'.1) hU'.2.word hN'.2.word
  have hown' : s'.vm.findClass own = some m.cls := by rw [hvm]; exact hown
  have hins : (Cond.instantiable cls 6).before args s' = true := hh _ (by simp [Bundle.ownAtoms0])
  obtain ⟨vm₁, cX, kX, hfX, hkX, -, -, X₁, st1⟩ := Y.newCold hx (own := own) (C := cls) (index := ik) (n := 6) hown' hk' hins hini'
    (g := F0 m pc ls st) rfl (by rw [hb]; exact d0) (Nat.le_refl _) (Nat.le_refl _)
  generalize hT1 : (T.setVm vm₁).pushCell { cls := cX, slots := kX.instanceTypes.map defaultValue, vm := .none } = T1 at X₁ st1
  have hcat : (Value.ref T.heap.size).category = 1 := rfl
  have hcellA : T1.heap[T.heap.size]? = some (freshCell cX kX) := by rw [← hT1]; exact State.heap_pushCell_size _ _
  have d3' : decode c.code (pc + 3) = .ok (.dup, 1) := by rw [hb]; exact d3
  obtain ⟨U, hsteps, hrun, hend, hW, hsame, ce, hce, hOO⟩ := X₁.ctorThrow0 hx htr (own := own) (cls := cls) (names := names) (ic := ic) hown' hcls hnames hh (fun x hx => nomatch hx) hfX hkX hcellA (by rw [hhp, hT]; exact Nat.le_refl _)
    (g := { method := m, pc := pc + 4, locals := ls, stack := .ref T.heap.size :: .ref T.heap.size :: st, locked := none }) rfl hsize rfl rfl (rest := st) rfl
    (by rw [hb]; exact d4) (by rw [hb]; exact d7) hout hRf (by simp only [List.map_cons, List.sum_cons, hcat]; omega) hlocks
  obtain ⟨f1, f2⟩ := vx_frame hsame
  have hub : U.heap.size ≤ s'.heap.size + 1 := hsame.2.2.1
  rw [hhp] at f1 f2 hub
  have hlb : H.size < U.heap.size := by rw [← hT]; exact (Array.getElem?_eq_some_iff.mp hce).1
  have hzU : U.heap.size = H.size + 1 := by omega
  have hWs : s.WarmedH U.vm := State.WarmedH.trans hW0 hW
  have hcl : s.vm.findClass cls = some ce.cls := by
    have h9 := hOO.cls
    rw [hvm] at h9
    exact h9
  have hkept : ∀ q, q < H.size → U.heap[q]? = H[q]? := fun q hq => f2 q hq (fun z hz => nomatch hz)
  have hall : s.sameButNew ({ U with vm := s.vm } : State) locs ((am_hp O).2.1 - s.heap.size) ((am_hp O).2.2 - sl0) := by
    subst hA
    obtain ⟨e1, e2⟩ := hsame
    rw [State.setFrames_setFrames] at e1
    have h2 : (T.setVm s.vm).sameButNew ({ U with vm := s.vm } : State) [] (0 + 1) (0 + 6) := ⟨e1, e2⟩
    have h3 := X.same.trans h2
    rw [List.append_nil] at h3
    exact h3.mono (by rw [hO]; simp only [am_hp, am_skip]; omega) (by rw [hO]; simp only [am_hp, am_skip]; omega)
  have hXc : am_Xc D tc bs O cls s U := by
    subst hO
    refine ⟨hnm.symm, (r1.skip (Nat.le_trans hbs r3.1) hzU hkept).moved hWs.alike, by rw [hzU]; exact Nat.le_succ_of_le r3.1, fun q h1 h2 => (hkept q (Nat.lt_of_lt_of_le h1 r3.1)).trans (r3.2.1 q h1 h2)⟩
  refine ⟨U, ?_, .threw T.heap.size, hrun, hend, Or.inr ⟨T.heap.size, rfl, cls, ce, locs, hXc, hce, hOO.vm, hcl, hWs, hall, r3.2.2⟩⟩
  refine st1 _ ?_
  show Steps p.tables e below (T1.setTop { method := m, pc := pc + 3, locals := ls, stack := .ref T.heap.size :: st, locked := none }) _
  jvm_step X₁.here [X₁.here.top, hx, d3', Value.category]
  exact hsteps
/-- not caught: no table -/
theorem xx_out0 {x : Nat} (hno : ∀ z ∈ c.exceptionTable.toList, False) (hlocks : meth.locks = false) {O : am_O} (hO : O = .inr (x, h)) : am_XX p l e R s m args below meth c (am_Q D tc bs sl0 below args s O) D tc bs sl0 pc L x h := by
  intro H ls locs cells slots rest q ce r1 r2 r3 r4 r5 g1 g2 g3
  refine vx_out (fun z hz => (hno z hz).elim) hlocks g1 g2 g3 (fun t ht hvm => ?_) r3.2.2 (by rw [hO]; simp only [am_hp]; omega) (by rw [hO]; simp only [am_hp]; omega)
  subst hO
  exact ⟨rfl, by rw [ht]; exact r1.moved hvm, r3.F ht⟩
end
