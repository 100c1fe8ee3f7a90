/-! SOUND, the third part: one instruction of the tables (am_SN), a lemma an act; printed by gen/sn.py -/
set_option maxRecDepth 100000
/-- an act makes the heap no smaller -/
def am_mo (act : am_A) : Prop := ∀ G L st h r, act G L st h = some r → match r with
  | .inl (_, _, _, h') => h.2.1 ≤ h'.2.1 ∧ h.2.2 ≤ h'.2.2
  | .inr (.inl (k, As, _, _, _, h')) => h' = h ∧ am_1s As = true ∧ As.length ≤ (am_P k).2.1
  | .inr (.inr (.inl (_, h'))) => h' = h
  | .inr (.inr (.inr (x, h'))) => (h.2.1 ≤ h'.2.1 ∧ h.2.2 ≤ h'.2.2) ∧ 17 ≤ x ∧ x < 23
section
variable (l : Launch) (D : va_G) (tc : Nat → ClassId) (G : am_G) (bs : Nat) (own nm : String) (cc : ByteArray) (mL : Nat) (ret : Option FieldType) (hh : List (Nat × Nat × Nat × Nat × Nat))
def am_CX (p : Program) (e : Env) (R : Room) (s : State) (m : MethodId) (args : Array Value) (meth : Method) (c : Code) (d : Nat) : Prop :=
  p.tables.exec = Jvm.exec ∧ c.code = cc ∧ c.maxLocals = mL ∧ meth.sig.returnType = ret ∧ meth.locks = false ∧ s.vm.findClass own = some m.cls ∧ (∀ w ∈ lw_all, w.before args s = true) ∧ meth.name = nm ∧ am_WS D tc G bs s ∧ l.stackTraces = false ∧ (d + 12 ≤ R.frames ∧ 200 + 40 * d ≤ R.locals) ∧ (∀ z ∈ c.exceptionTable.toList, ∃ q ∈ hh, z.startPc = q.1 ∧ z.endPc = q.2.1)
/-- what is behind an act's answer -/
def am_PO (p : Program) (e : Env) (R : Room) (s : State) (m : MethodId) (args : Array Value) (below : List Frame) (meth : Method) (c : Code) (d sl0 : Nat) (O : am_O) (pc : Nat) (L : List Value) (r : am_R) : Prop := match r with
  | .inl (pc', L', st', h') => (h'.2.1 ≤ s.heap.size + R.cells ∧ h'.2.2 ≤ sl0 + R.slots) ∧ am_KK p l e R s m args below meth c (am_Q D tc bs sl0 below args s O) D tc bs sl0 pc' L' st' h'
  | .inr (.inl (k, As, nx, L', rest, h')) => ∃ d' O', d' < d ∧ am_MT l D tc G bs (am_J k).1 (am_J k).2 d' As h' O' ∧ (h'.2.1 ≤ (am_hp O').2.1 ∧ h'.2.2 ≤ (am_hp O').2.2) ∧ ((am_hp O').2.1 ≤ s.heap.size + R.cells ∧ (am_hp O').2.2 ≤ sl0 + R.slots) ∧ am_AF p l e R s m args below meth c (am_Q D tc bs sl0 below args s O) D tc bs sl0 pc nx L' rest O'
  | .inr (.inr (.inl (v, h'))) => O = .inl (v, h')
  | .inr (.inr (.inr (x, h'))) => (h'.2.1 ≤ s.heap.size + R.cells ∧ h'.2.2 ≤ sl0 + R.slots) ∧ (am_find pc x hh = none → O = .inr (x, h')) ∧ am_XX p l e R s m args below meth c (am_Q D tc bs sl0 below args s O) D tc bs sl0 pc L x h'
def am_SN (pc : Nat) (act : am_A) : Prop := am_mo act ∧ ∀ (p : Program) (e : Env) (R : Room) (s : State) (m : MethodId) (args : Array Value) (below : List Frame) (meth : Method) (c : Code) (d sl0 : Nat) (O : am_O), am_CX l D tc G bs own nm cc mL ret hh p e R s m args meth c d →
  ∀ (L st : List Value) (h : am_H) (r : am_R), act G L st h = some r → am_PO l D tc G bs hh p e R s m args below meth c d sl0 O pc L r → L.length = mL → am_KK p l e R s m args below meth c (am_Q D tc bs sl0 below args s O) D tc bs sl0 pc L st h
end
theorem am_ldcwS {p : Program} {l : Launch} {e : Env} {R : Room} {s : State} {m : MethodId} {args : Array Value} {below : List Frame} {meth : Method} {c : Code} {H : Heap} {locs : List Loc} {cells slots : Nat} {Q : State → Prop} {cc : ByteArray} {pc : Nat} {ls : Array Slot} {rest : List Value} (hexec : p.tables.exec = Jvm.exec) (hb : c.code = cc) {own tx : String} {index q : Nat} (hown : s.vm.findClass own = some m.cls) (hZ : vk_R own index tx q s) (hdg : decode cc pc = .ok (.ldc_w index, 3))
    (k : W p l e R s m args below meth c H locs cells slots Q (F0 m (pc + 3) ls (.ref q :: rest))) : W p l e R s m args below meth c H locs cells slots Q (F0 m pc ls rest) := by
  intro T hT X
  obtain ⟨t, a, b⟩ := k T hT X
  exact ⟨t, X.ldcStringW hexec hown (text := tx) (a := q) hZ.1 hZ.2 (g := F0 m pc ls rest) rfl (by rw [hb]; exact hdg) t a, b⟩
theorem am_same_spec {v w : Value} {b : Bool} (h : am_same v w = some b) : ∃ rx ry : Option Nat, v = va_rf rx ∧ w = va_rf ry ∧ (b = true ↔ rx = ry) := by
  unfold am_same at h
  split at h
  · rename_i a c
    cases h
    refine ⟨some a, some c, rfl, rfl, ⟨fun q => by rw [Nat.eq_of_beq_eq_true q], fun q => by cases q; exact Nat.beq_refl _⟩⟩
  · rename_i c
    cases h
    exact ⟨none, some c, rfl, rfl, ⟨fun q => (nomatch q), fun q => (nomatch q)⟩⟩
  · rename_i a
    cases h
    exact ⟨some a, none, rfl, rfl, ⟨fun q => (nomatch q), fun q => (nomatch q)⟩⟩
  · cases h
    exact ⟨none, none, rfl, rfl, ⟨fun _ => rfl, fun _ => rfl⟩⟩
  · exact nomatch h
section
variable {l : Launch} {D : va_G} {tc : Nat → ClassId} {G : am_G} {bs : Nat} {own nm : String} {cc : ByteArray} {mL : Nat} {ret : Option FieldType} {hh : List (Nat × Nat × Nat × Nat × Nat)} {pc nx : Nat}
theorem mo_refl {h : am_H} : h.2.1 ≤ h.2.1 ∧ h.2.2 ≤ h.2.2 := ⟨Nat.le_refl _, Nat.le_refl _⟩
theorem sn_iconst {n : Int} {v : Int32} (hd : decode cc pc = .ok (.iconst n, 1)) (hv : Int32.ofInt n = v) (hn : pc + 1 = nx) : am_SN l D tc G bs own nm cc mL ret hh pc (a_push (.int v) nx) := by
  refine ⟨fun G L st h r hr => ?_, ?_⟩
  · (have e9 := Option.some.inj (show some _ = some r from hr); subst e9; exact mo_refl)
  intro p e R s m args below meth c d sl0 O X L st h r hr po hLn
  obtain ⟨hx, hb, hmL, hrt, hlk, hown, hts, hmn, w, hst, hR, hno⟩ := X
  have e9 := Option.some.inj (show some _ = some r from hr); subst e9
  exact kk_go (fun H ls locs cells slots q ww => lv_iconst hx hb hd hv (by subst hn; exact ww)) po.2
theorem sn_bipush {n : Int} {v : Int32} (hd : decode cc pc = .ok (.bipush n, 2)) (hv : (Int8.ofInt n).toInt32 = v) (hn : pc + 2 = nx) : am_SN l D tc G bs own nm cc mL ret hh pc (a_push (.int v) nx) := by
  refine ⟨fun G L st h r hr => ?_, ?_⟩
  · (have e9 := Option.some.inj (show some _ = some r from hr); subst e9; exact mo_refl)
  intro p e R s m args below meth c d sl0 O X L st h r hr po hLn
  obtain ⟨hx, hb, hmL, hrt, hlk, hown, hts, hmn, w, hst, hR, hno⟩ := X
  have e9 := Option.some.inj (show some _ = some r from hr); subst e9
  exact kk_go (fun H ls locs cells slots q ww => lv_bipush hx hb hd hv (by subst hn; exact ww)) po.2
theorem sn_sipush {n : Int} {v : Int32} (hd : decode cc pc = .ok (.sipush n, 3)) (hv : (Int16.ofInt n).toInt32 = v) (hn : pc + 3 = nx) : am_SN l D tc G bs own nm cc mL ret hh pc (a_push (.int v) nx) := by
  refine ⟨fun G L st h r hr => ?_, ?_⟩
  · (have e9 := Option.some.inj (show some _ = some r from hr); subst e9; exact mo_refl)
  intro p e R s m args below meth c d sl0 O X L st h r hr po hLn
  obtain ⟨hx, hb, hmL, hrt, hlk, hown, hts, hmn, w, hst, hR, hno⟩ := X
  have e9 := Option.some.inj (show some _ = some r from hr); subst e9
  exact kk_go (fun H ls locs cells slots q ww => lv_sipush hx hb hd hv (by subst hn; exact ww)) po.2
theorem sn_lconst {n : Fin 2} {v : Int64} (hd : decode cc pc = .ok (.lconst n, 1)) (hv : Int64.ofNat (n : Nat) = v) (hn : pc + 1 = nx) : am_SN l D tc G bs own nm cc mL ret hh pc (a_push (.long v) nx) := by
  refine ⟨fun G L st h r hr => ?_, ?_⟩
  · (have e9 := Option.some.inj (show some _ = some r from hr); subst e9; exact mo_refl)
  intro p e R s m args below meth c d sl0 O X L st h r hr po hLn
  obtain ⟨hx, hb, hmL, hrt, hlk, hown, hts, hmn, w, hst, hR, hno⟩ := X
  have e9 := Option.some.inj (show some _ = some r from hr); subst e9
  exact kk_go (fun H ls locs cells slots q ww => lv_lconst hx hb hd hv (by subst hn; exact ww)) po.2
theorem sn_null (hd : decode cc pc = .ok (.aconst_null, 1)) (hn : pc + 1 = nx) : am_SN l D tc G bs own nm cc mL ret hh pc (a_push .null nx) := by
  refine ⟨fun G L st h r hr => ?_, ?_⟩
  · (have e9 := Option.some.inj (show some _ = some r from hr); subst e9; exact mo_refl)
  intro p e R s m args below meth c d sl0 O X L st h r hr po hLn
  obtain ⟨hx, hb, hmL, hrt, hlk, hown, hts, hmn, w, hst, hR, hno⟩ := X
  have e9 := Option.some.inj (show some _ = some r from hr); subst e9
  exact kk_go (fun H ls locs cells slots q ww => lv_null hx hb hd (by subst hn; exact ww)) po.2
theorem sn_ldci {index : Nat} {v : Int32} (hd : decode cc pc = .ok (.ldc index, 2)) (hc : (Jvm.Cond.constant own index v) ∈ lw_all) (hn : pc + 2 = nx) : am_SN l D tc G bs own nm cc mL ret hh pc (a_push (.int v) nx) := by
  refine ⟨fun G L st h r hr => ?_, ?_⟩
  · (have e9 := Option.some.inj (show some _ = some r from hr); subst e9; exact mo_refl)
  intro p e R s m args below meth c d sl0 O X L st h r hr po hLn
  obtain ⟨hx, hb, hmL, hrt, hlk, hown, hts, hmn, w, hst, hR, hno⟩ := X
  have e9 := Option.some.inj (show some _ = some r from hr); subst e9
  exact kk_go (fun H ls locs cells slots q ww => lv_ldc hx hb hown (hts _ hc) hd (by subst hn; exact ww)) po.2
theorem sn_ldcwi {index : Nat} {v : Int32} (hd : decode cc pc = .ok (.ldc_w index, 3)) (hc : (Jvm.Cond.constant own index v) ∈ lw_all) (hn : pc + 3 = nx) : am_SN l D tc G bs own nm cc mL ret hh pc (a_push (.int v) nx) := by
  refine ⟨fun G L st h r hr => ?_, ?_⟩
  · (have e9 := Option.some.inj (show some _ = some r from hr); subst e9; exact mo_refl)
  intro p e R s m args below meth c d sl0 O X L st h r hr po hLn
  obtain ⟨hx, hb, hmL, hrt, hlk, hown, hts, hmn, w, hst, hR, hno⟩ := X
  have e9 := Option.some.inj (show some _ = some r from hr); subst e9
  exact kk_go (fun H ls locs cells slots q ww => lv_ldcw hx hb hown (hts _ hc) hd (by subst hn; exact ww)) po.2
theorem sn_ldcs {index g : Nat} {tx : String} (hd : decode cc pc = .ok (.ldc index, 2)) (hm : (own, index, tx, g) ∈ am_str) (hn : pc + 2 = nx) : am_SN l D tc G bs own nm cc mL ret hh pc (a_glob g nx) := by
  refine ⟨fun G L st h r hr => ?_, ?_⟩
  · (have e9 := Option.some.inj (show some _ = some r from hr); subst e9; exact mo_refl)
  intro p e R s m args below meth c d sl0 O X L st h r hr po hLn
  obtain ⟨hx, hb, hmL, hrt, hlk, hown, hts, hmn, w, hst, hR, hno⟩ := X
  obtain ⟨a9, g1, g2⟩ := w.2.2.2.1 _ hm
  have e9 := Option.some.inj (show some _ = some r from hr); subst e9
  subst hn
  simp only [am_PO, g1] at po
  exact kk_go (fun H ls locs cells slots q ww => va_ldcS hx hb hown g2 hd ww) po.2
theorem sn_ldcws {index g : Nat} {tx : String} (hd : decode cc pc = .ok (.ldc_w index, 3)) (hm : (own, index, tx, g) ∈ am_str) (hn : pc + 3 = nx) : am_SN l D tc G bs own nm cc mL ret hh pc (a_glob g nx) := by
  refine ⟨fun G L st h r hr => ?_, ?_⟩
  · (have e9 := Option.some.inj (show some _ = some r from hr); subst e9; exact mo_refl)
  intro p e R s m args below meth c d sl0 O X L st h r hr po hLn
  obtain ⟨hx, hb, hmL, hrt, hlk, hown, hts, hmn, w, hst, hR, hno⟩ := X
  obtain ⟨a9, g1, g2⟩ := w.2.2.2.1 _ hm
  have e9 := Option.some.inj (show some _ = some r from hr); subst e9
  subst hn
  simp only [am_PO, g1] at po
  exact kk_go (fun H ls locs cells slots q ww => am_ldcwS hx hb hown g2 hd ww) po.2
theorem sn_gets {index g : Nat} {C n d9 : String} (hd : decode cc pc = .ok (.getstatic index, 3)) (hm : (C, n, d9, g) ∈ am_sta) (hl : (Cond.fieldLink own index C n d9) ∈ lw_all) (hn : pc + 3 = nx) : am_SN l D tc G bs own nm cc mL ret hh pc (a_glob g nx) := by
  refine ⟨fun G L st h r hr => ?_, ?_⟩
  · (have e9 := Option.some.inj (show some _ = some r from hr); subst e9; exact mo_refl)
  intro p e R s m args below meth c d sl0 O X L st h r hr po hLn
  obtain ⟨hx, hb, hmL, hrt, hlk, hown, hts, hmn, w, hst, hR, hno⟩ := X
  have g2 := w.2.2.1 _ hm
  have e9 := Option.some.inj (show some _ = some r from hr); subst e9
  subst hn
  intro H ls locs cells slots r1 r2 r3 r4 r5
  exact va_gets hx hb g2 r3 hown (hts _ hl) (fun x h => h) hd (po.2 H ls locs cells slots r1 r2 r3 r4 r5)
theorem sn_getsI {index : Nat} {C n d9 : String} {v : Int32} (hd : decode cc pc = .ok (.getstatic index, 3)) (hm : (C, n, d9, am_gc) ∈ am_sta) (hl : (Cond.fieldLink own index C n d9) ∈ lw_all) (hG : G am_gc = .int v) (hn : pc + 3 = nx) : am_SN l D tc G bs own nm cc mL ret hh pc (a_push (.int v) nx) := by
  refine ⟨fun G L st h r hr => ?_, ?_⟩
  · (have e9 := Option.some.inj (show some _ = some r from hr); subst e9; exact mo_refl)
  intro p e R s m args below meth c d sl0 O X L st h r hr po hLn
  obtain ⟨hx, hb, hmL, hrt, hlk, hown, hts, hmn, w, hst, hR, hno⟩ := X
  have g2 := w.2.2.1 _ hm
  simp only [hG] at g2
  have e9 := Option.some.inj (show some _ = some r from hr); subst e9
  subst hn
  intro H ls locs cells slots r1 r2 r3 r4 r5
  exact va_gets hx hb g2 r3 hown (hts _ hl) (fun x h => h) hd (po.2 H ls locs cells slots r1 r2 r3 r4 r5)
theorem sn_ldcm {index : Nat} (hd : decode cc pc = .ok (.ldc index, 2)) (hc : (Cond.classLink own index "[Ljava/lang/Object;") ∈ lw_all) (hn : pc + 2 = nx) : am_SN l D tc G bs own nm cc mL ret hh pc (a_glob am_gm nx) := by
  refine ⟨fun G L st h r hr => ?_, ?_⟩
  · (have e9 := Option.some.inj (show some _ = some r from hr); subst e9; exact mo_refl)
  intro p e R s m args below meth c d sl0 O X L st h r hr po hLn
  obtain ⟨hx, hb, hmL, hrt, hlk, hown, hts, hmn, w, hst, hR, hno⟩ := X
  obtain ⟨mi, g1, g2⟩ := w.2.2.2.2.1
  have e9 := Option.some.inj (show some _ = some r from hr); subst e9
  subst hn
  simp only [am_PO, g1] at po
  exact kk_go (fun H ls locs cells slots q ww => va_ldcM hx hb hown (hts _ hc) g2 hd ww) po.2
theorem sn_iload_n {i : Nat} {k9 : Fin 4} (hd : decode cc pc = .ok (.iload_n k9, 1)) (hi : (k9 : Nat) = i) (hn : pc + 1 = nx) : am_SN l D tc G bs own nm cc mL ret hh pc (a_iload i nx) := by
  refine ⟨fun G L st h r hr => ?_, ?_⟩
  · unfold a_iload at hr
    (repeat' split at hr) <;> first | contradiction | (have e9 := Option.some.inj (show some _ = some r from hr); subst e9; exact mo_refl)
  intro p e R s m args below meth c d sl0 O X L st h r hr po hLn
  obtain ⟨hx, hb, hmL, hrt, hlk, hown, hts, hmn, w, hst, hR, hno⟩ := X
  unfold a_iload at hr
  split at hr
  · rename_i v e1
    have e9 := Option.some.inj (show some _ = some r from hr); subst e9
    exact kk_go (fun H ls locs cells slots q ww => lv_iload_n hx hb hd hi (q.get e1 rfl) (by subst hn; exact ww)) po.2
  · exact nomatch hr
theorem sn_iload {i : Nat} (hd : decode cc pc = .ok (.iload i, 2)) (hn : pc + 2 = nx) : am_SN l D tc G bs own nm cc mL ret hh pc (a_iload i nx) := by
  refine ⟨fun G L st h r hr => ?_, ?_⟩
  · unfold a_iload at hr
    (repeat' split at hr) <;> first | contradiction | (have e9 := Option.some.inj (show some _ = some r from hr); subst e9; exact mo_refl)
  intro p e R s m args below meth c d sl0 O X L st h r hr po hLn
  obtain ⟨hx, hb, hmL, hrt, hlk, hown, hts, hmn, w, hst, hR, hno⟩ := X
  unfold a_iload at hr
  split at hr
  · rename_i v e1
    have e9 := Option.some.inj (show some _ = some r from hr); subst e9
    exact kk_go (fun H ls locs cells slots q ww => lv_iload hx hb hd (q.get e1 rfl) (by subst hn; exact ww)) po.2
  · exact nomatch hr
theorem sn_aload_n {i : Nat} {k9 : Fin 4} (hd : decode cc pc = .ok (.aload_n k9, 1)) (hi : (k9 : Nat) = i) (hn : pc + 1 = nx) : am_SN l D tc G bs own nm cc mL ret hh pc (a_aload i nx) := by
  refine ⟨fun G L st h r hr => ?_, ?_⟩
  · unfold a_aload at hr
    (repeat' split at hr) <;> first | contradiction | (have e9 := Option.some.inj (show some _ = some r from hr); subst e9; exact mo_refl)
  intro p e R s m args below meth c d sl0 O X L st h r hr po hLn
  obtain ⟨hx, hb, hmL, hrt, hlk, hown, hts, hmn, w, hst, hR, hno⟩ := X
  unfold a_aload at hr
  split at hr
  · rename_i v e1
    have e9 := Option.some.inj (show some _ = some r from hr); subst e9
    exact kk_go (fun H ls locs cells slots q ww => lv_aload_n hx hb hd hi (q.get e1 rfl) (by subst hn; exact ww)) po.2
  · rename_i e1
    have e9 := Option.some.inj (show some _ = some r from hr); subst e9
    exact kk_go (fun H ls locs cells slots q ww => lv_aload_nN hx hb hd hi (q.get e1 rfl) (by subst hn; exact ww)) po.2
  · exact nomatch hr
theorem sn_aload {i : Nat} (hd : decode cc pc = .ok (.aload i, 2)) (hn : pc + 2 = nx) : am_SN l D tc G bs own nm cc mL ret hh pc (a_aload i nx) := by
  refine ⟨fun G L st h r hr => ?_, ?_⟩
  · unfold a_aload at hr
    (repeat' split at hr) <;> first | contradiction | (have e9 := Option.some.inj (show some _ = some r from hr); subst e9; exact mo_refl)
  intro p e R s m args below meth c d sl0 O X L st h r hr po hLn
  obtain ⟨hx, hb, hmL, hrt, hlk, hown, hts, hmn, w, hst, hR, hno⟩ := X
  unfold a_aload at hr
  split at hr
  · rename_i v e1
    have e9 := Option.some.inj (show some _ = some r from hr); subst e9
    exact kk_go (fun H ls locs cells slots q ww => lv_aload hx hb hd (q.get e1 rfl) (by subst hn; exact ww)) po.2
  · rename_i e1
    have e9 := Option.some.inj (show some _ = some r from hr); subst e9
    exact kk_go (fun H ls locs cells slots q ww => lv_aloadN hx hb hd (q.get e1 rfl) (by subst hn; exact ww)) po.2
  · exact nomatch hr
theorem sn_istore_n {i : Nat} {k9 : Fin 4} (hd : decode cc pc = .ok (.istore_n k9, 1)) (hi : (k9 : Nat) = i) (hm : i < mL) (hn : pc + 1 = nx) : am_SN l D tc G bs own nm cc mL ret hh pc (a_istore i nx) := by
  refine ⟨fun G L st h r hr => ?_, ?_⟩
  · unfold a_istore at hr
    (repeat' split at hr) <;> first | contradiction | (have e9 := Option.some.inj (show some _ = some r from hr); subst e9; exact mo_refl)
  intro p e R s m args below meth c d sl0 O X L st h r hr po hLn
  obtain ⟨hx, hb, hmL, hrt, hlk, hown, hts, hmn, w, hst, hR, hno⟩ := X
  unfold a_istore at hr
  split at hr
  · rename_i v st
    have e9 := Option.some.inj (show some _ = some r from hr); subst e9
    subst hn
    intro H ls locs cells slots r1 r2 r3 r4 r5
    obtain ⟨hL, lv, h1, h2⟩ := r2
    exact lv_istore_n hx hb hd hi h1 (by rw [hmL]; exact hm) rfl (fun ls' q => po.2 H ls' locs cells slots r1 (am_LR.set hL h2 rfl q) r3 r4 r5)
  · exact nomatch hr
theorem sn_istore {i : Nat} (hd : decode cc pc = .ok (.istore i, 2)) (hm : i < mL) (hn : pc + 2 = nx) : am_SN l D tc G bs own nm cc mL ret hh pc (a_istore i nx) := by
  refine ⟨fun G L st h r hr => ?_, ?_⟩
  · unfold a_istore at hr
    (repeat' split at hr) <;> first | contradiction | (have e9 := Option.some.inj (show some _ = some r from hr); subst e9; exact mo_refl)
  intro p e R s m args below meth c d sl0 O X L st h r hr po hLn
  obtain ⟨hx, hb, hmL, hrt, hlk, hown, hts, hmn, w, hst, hR, hno⟩ := X
  unfold a_istore at hr
  split at hr
  · rename_i v st
    have e9 := Option.some.inj (show some _ = some r from hr); subst e9
    subst hn
    intro H ls locs cells slots r1 r2 r3 r4 r5
    obtain ⟨hL, lv, h1, h2⟩ := r2
    exact lv_istore hx hb hd h1 (by rw [hmL]; exact hm) rfl (fun ls' q => po.2 H ls' locs cells slots r1 (am_LR.set hL h2 rfl q) r3 r4 r5)
  · exact nomatch hr
theorem sn_astore_n {i : Nat} {k9 : Fin 4} (hd : decode cc pc = .ok (.astore_n k9, 1)) (hi : (k9 : Nat) = i) (hm : i < mL) (hn : pc + 1 = nx) : am_SN l D tc G bs own nm cc mL ret hh pc (a_astore i nx) := by
  refine ⟨fun G L st h r hr => ?_, ?_⟩
  · unfold a_astore at hr
    (repeat' split at hr) <;> first | contradiction | (have e9 := Option.some.inj (show some _ = some r from hr); subst e9; exact mo_refl)
  intro p e R s m args below meth c d sl0 O X L st h r hr po hLn
  obtain ⟨hx, hb, hmL, hrt, hlk, hown, hts, hmn, w, hst, hR, hno⟩ := X
  unfold a_astore at hr
  split at hr
  · rename_i v st
    have e9 := Option.some.inj (show some _ = some r from hr); subst e9
    subst hn
    intro H ls locs cells slots r1 r2 r3 r4 r5
    obtain ⟨hL, lv, h1, h2⟩ := r2
    exact lv_astore_n hx hb hd hi h1 (by rw [hmL]; exact hm) rfl (fun ls' q => po.2 H ls' locs cells slots r1 (am_LR.set hL h2 rfl q) r3 r4 r5)
  · rename_i st
    have e9 := Option.some.inj (show some _ = some r from hr); subst e9
    subst hn
    intro H ls locs cells slots r1 r2 r3 r4 r5
    obtain ⟨hL, lv, h1, h2⟩ := r2
    exact lv_astore_nN hx hb hd hi h1 (by rw [hmL]; exact hm) rfl (fun ls' q => po.2 H ls' locs cells slots r1 (am_LR.set hL h2 rfl q) r3 r4 r5)
  · exact nomatch hr
theorem sn_astore {i : Nat} (hd : decode cc pc = .ok (.astore i, 2)) (hm : i < mL) (hn : pc + 2 = nx) : am_SN l D tc G bs own nm cc mL ret hh pc (a_astore i nx) := by
  refine ⟨fun G L st h r hr => ?_, ?_⟩
  · unfold a_astore at hr
    (repeat' split at hr) <;> first | contradiction | (have e9 := Option.some.inj (show some _ = some r from hr); subst e9; exact mo_refl)
  intro p e R s m args below meth c d sl0 O X L st h r hr po hLn
  obtain ⟨hx, hb, hmL, hrt, hlk, hown, hts, hmn, w, hst, hR, hno⟩ := X
  unfold a_astore at hr
  split at hr
  · rename_i v st
    have e9 := Option.some.inj (show some _ = some r from hr); subst e9
    subst hn
    intro H ls locs cells slots r1 r2 r3 r4 r5
    obtain ⟨hL, lv, h1, h2⟩ := r2
    exact lv_astore hx hb hd h1 (by rw [hmL]; exact hm) rfl (fun ls' q => po.2 H ls' locs cells slots r1 (am_LR.set hL h2 rfl q) r3 r4 r5)
  · rename_i st
    have e9 := Option.some.inj (show some _ = some r from hr); subst e9
    subst hn
    intro H ls locs cells slots r1 r2 r3 r4 r5
    obtain ⟨hL, lv, h1, h2⟩ := r2
    exact lv_astoreN hx hb hd h1 (by rw [hmL]; exact hm) rfl (fun ls' q => po.2 H ls' locs cells slots r1 (am_LR.set hL h2 rfl q) r3 r4 r5)
  · exact nomatch hr
theorem sn_iinc {i : Nat} {n : Int} {cst : Int32} (hd : decode cc pc = .ok (.iinc i n, 3)) (hv : Int32.ofInt n = cst) (hn : pc + 3 = nx) : am_SN l D tc G bs own nm cc mL ret hh pc (a_iinc i cst nx) := by
  refine ⟨fun G L st h r hr => ?_, ?_⟩
  · unfold a_iinc at hr
    (repeat' split at hr) <;> first | contradiction | (have e9 := Option.some.inj (show some _ = some r from hr); subst e9; exact mo_refl)
  intro p e R s m args below meth c d sl0 O X L st h r hr po hLn
  obtain ⟨hx, hb, hmL, hrt, hlk, hown, hts, hmn, w, hst, hR, hno⟩ := X
  unfold a_iinc at hr
  split at hr
  · rename_i v e1
    have e9 := Option.some.inj (show some _ = some r from hr); subst e9
    subst hn hv
    intro H ls locs cells slots r1 r2 r3 r4 r5
    obtain ⟨hL, lv, h1, h2⟩ := r2
    rcases h2 i _ e1 with e2 | ⟨e2, -⟩
    · cases e2
    · obtain ⟨k9, hk9⟩ := List.getElem?_of_mem e2
      exact lv_iinc hx hb hd h1 hk9 rfl (by have := am_ix_lt e1; omega) rfl (fun ls' q => po.2 H ls' locs cells slots r1 (am_LR.set hL h2 rfl q) r3 r4 r5)
  · exact nomatch hr
theorem sn_iadd (hd : decode cc pc = .ok (.iadd, 1)) (hn : pc + 1 = nx) : am_SN l D tc G bs own nm cc mL ret hh pc (a_iadd nx) := by
  refine ⟨fun G L st h r hr => ?_, ?_⟩
  · unfold a_iadd at hr
    (repeat' split at hr) <;> first | contradiction | (have e9 := Option.some.inj (show some _ = some r from hr); subst e9; exact mo_refl)
  intro p e R s m args below meth c d sl0 O X L st h r hr po hLn
  obtain ⟨hx, hb, hmL, hrt, hlk, hown, hts, hmn, w, hst, hR, hno⟩ := X
  unfold a_iadd at hr
  split at hr
  · rename_i y x st
    have e9 := Option.some.inj (show some _ = some r from hr); subst e9
    exact kk_go (fun H ls locs cells slots q ww => lv_iadd hx hb hd (by subst hn; exact ww)) po.2
  · exact nomatch hr
theorem sn_isub (hd : decode cc pc = .ok (.isub, 1)) (hn : pc + 1 = nx) : am_SN l D tc G bs own nm cc mL ret hh pc (a_isub nx) := by
  refine ⟨fun G L st h r hr => ?_, ?_⟩
  · unfold a_isub at hr
    (repeat' split at hr) <;> first | contradiction | (have e9 := Option.some.inj (show some _ = some r from hr); subst e9; exact mo_refl)
  intro p e R s m args below meth c d sl0 O X L st h r hr po hLn
  obtain ⟨hx, hb, hmL, hrt, hlk, hown, hts, hmn, w, hst, hR, hno⟩ := X
  unfold a_isub at hr
  split at hr
  · rename_i y x st
    have e9 := Option.some.inj (show some _ = some r from hr); subst e9
    exact kk_go (fun H ls locs cells slots q ww => lv_isub hx hb hd (by subst hn; exact ww)) po.2
  · exact nomatch hr
theorem sn_imul (hd : decode cc pc = .ok (.imul, 1)) (hn : pc + 1 = nx) : am_SN l D tc G bs own nm cc mL ret hh pc (a_imul nx) := by
  refine ⟨fun G L st h r hr => ?_, ?_⟩
  · unfold a_imul at hr
    (repeat' split at hr) <;> first | contradiction | (have e9 := Option.some.inj (show some _ = some r from hr); subst e9; exact mo_refl)
  intro p e R s m args below meth c d sl0 O X L st h r hr po hLn
  obtain ⟨hx, hb, hmL, hrt, hlk, hown, hts, hmn, w, hst, hR, hno⟩ := X
  unfold a_imul at hr
  split at hr
  · rename_i y x st
    have e9 := Option.some.inj (show some _ = some r from hr); subst e9
    exact kk_go (fun H ls locs cells slots q ww => lv_imul hx hb hd (by subst hn; exact ww)) po.2
  · exact nomatch hr
theorem sn_iand (hd : decode cc pc = .ok (.iand, 1)) (hn : pc + 1 = nx) : am_SN l D tc G bs own nm cc mL ret hh pc (a_iand nx) := by
  refine ⟨fun G L st h r hr => ?_, ?_⟩
  · unfold a_iand at hr
    (repeat' split at hr) <;> first | contradiction | (have e9 := Option.some.inj (show some _ = some r from hr); subst e9; exact mo_refl)
  intro p e R s m args below meth c d sl0 O X L st h r hr po hLn
  obtain ⟨hx, hb, hmL, hrt, hlk, hown, hts, hmn, w, hst, hR, hno⟩ := X
  unfold a_iand at hr
  split at hr
  · rename_i y x st
    have e9 := Option.some.inj (show some _ = some r from hr); subst e9
    exact kk_go (fun H ls locs cells slots q ww => lv_iand hx hb hd (by subst hn; exact ww)) po.2
  · exact nomatch hr
theorem sn_ior (hd : decode cc pc = .ok (.ior, 1)) (hn : pc + 1 = nx) : am_SN l D tc G bs own nm cc mL ret hh pc (a_ior nx) := by
  refine ⟨fun G L st h r hr => ?_, ?_⟩
  · unfold a_ior at hr
    (repeat' split at hr) <;> first | contradiction | (have e9 := Option.some.inj (show some _ = some r from hr); subst e9; exact mo_refl)
  intro p e R s m args below meth c d sl0 O X L st h r hr po hLn
  obtain ⟨hx, hb, hmL, hrt, hlk, hown, hts, hmn, w, hst, hR, hno⟩ := X
  unfold a_ior at hr
  split at hr
  · rename_i y x st
    have e9 := Option.some.inj (show some _ = some r from hr); subst e9
    exact kk_go (fun H ls locs cells slots q ww => lv_ior hx hb hd (by subst hn; exact ww)) po.2
  · exact nomatch hr
theorem sn_ixor (hd : decode cc pc = .ok (.ixor, 1)) (hn : pc + 1 = nx) : am_SN l D tc G bs own nm cc mL ret hh pc (a_ixor nx) := by
  refine ⟨fun G L st h r hr => ?_, ?_⟩
  · unfold a_ixor at hr
    (repeat' split at hr) <;> first | contradiction | (have e9 := Option.some.inj (show some _ = some r from hr); subst e9; exact mo_refl)
  intro p e R s m args below meth c d sl0 O X L st h r hr po hLn
  obtain ⟨hx, hb, hmL, hrt, hlk, hown, hts, hmn, w, hst, hR, hno⟩ := X
  unfold a_ixor at hr
  split at hr
  · rename_i y x st
    have e9 := Option.some.inj (show some _ = some r from hr); subst e9
    exact kk_go (fun H ls locs cells slots q ww => lv_ixor hx hb hd (by subst hn; exact ww)) po.2
  · exact nomatch hr
theorem sn_ishl (hd : decode cc pc = .ok (.ishl, 1)) (hn : pc + 1 = nx) : am_SN l D tc G bs own nm cc mL ret hh pc (a_ishl nx) := by
  refine ⟨fun G L st h r hr => ?_, ?_⟩
  · unfold a_ishl at hr
    (repeat' split at hr) <;> first | contradiction | (have e9 := Option.some.inj (show some _ = some r from hr); subst e9; exact mo_refl)
  intro p e R s m args below meth c d sl0 O X L st h r hr po hLn
  obtain ⟨hx, hb, hmL, hrt, hlk, hown, hts, hmn, w, hst, hR, hno⟩ := X
  unfold a_ishl at hr
  split at hr
  · rename_i y x st
    have e9 := Option.some.inj (show some _ = some r from hr); subst e9
    exact kk_go (fun H ls locs cells slots q ww => lv_ishl hx hb hd (by subst hn; exact ww)) po.2
  · exact nomatch hr
theorem sn_ishr (hd : decode cc pc = .ok (.ishr, 1)) (hn : pc + 1 = nx) : am_SN l D tc G bs own nm cc mL ret hh pc (a_ishr nx) := by
  refine ⟨fun G L st h r hr => ?_, ?_⟩
  · unfold a_ishr at hr
    (repeat' split at hr) <;> first | contradiction | (have e9 := Option.some.inj (show some _ = some r from hr); subst e9; exact mo_refl)
  intro p e R s m args below meth c d sl0 O X L st h r hr po hLn
  obtain ⟨hx, hb, hmL, hrt, hlk, hown, hts, hmn, w, hst, hR, hno⟩ := X
  unfold a_ishr at hr
  split at hr
  · rename_i y x st
    have e9 := Option.some.inj (show some _ = some r from hr); subst e9
    exact kk_go (fun H ls locs cells slots q ww => lv_ishr hx hb hd (by subst hn; exact ww)) po.2
  · exact nomatch hr
theorem sn_iushr (hd : decode cc pc = .ok (.iushr, 1)) (hn : pc + 1 = nx) : am_SN l D tc G bs own nm cc mL ret hh pc (a_iushr nx) := by
  refine ⟨fun G L st h r hr => ?_, ?_⟩
  · unfold a_iushr at hr
    (repeat' split at hr) <;> first | contradiction | (have e9 := Option.some.inj (show some _ = some r from hr); subst e9; exact mo_refl)
  intro p e R s m args below meth c d sl0 O X L st h r hr po hLn
  obtain ⟨hx, hb, hmL, hrt, hlk, hown, hts, hmn, w, hst, hR, hno⟩ := X
  unfold a_iushr at hr
  split at hr
  · rename_i y x st
    have e9 := Option.some.inj (show some _ = some r from hr); subst e9
    exact kk_go (fun H ls locs cells slots q ww => lv_iushr hx hb hd rfl (by subst hn; exact ww)) po.2
  · exact nomatch hr
theorem sn_ineg (hd : decode cc pc = .ok (.ineg, 1)) (hn : pc + 1 = nx) : am_SN l D tc G bs own nm cc mL ret hh pc (a_ineg nx) := by
  refine ⟨fun G L st h r hr => ?_, ?_⟩
  · unfold a_ineg at hr
    (repeat' split at hr) <;> first | contradiction | (have e9 := Option.some.inj (show some _ = some r from hr); subst e9; exact mo_refl)
  intro p e R s m args below meth c d sl0 O X L st h r hr po hLn
  obtain ⟨hx, hb, hmL, hrt, hlk, hown, hts, hmn, w, hst, hR, hno⟩ := X
  unfold a_ineg at hr
  split at hr
  · rename_i x st
    have e9 := Option.some.inj (show some _ = some r from hr); subst e9
    exact kk_go (fun H ls locs cells slots q ww => lv_ineg hx hb hd (by subst hn; exact ww)) po.2
  · exact nomatch hr
theorem sn_i2l (hd : decode cc pc = .ok (.i2l, 1)) (hn : pc + 1 = nx) : am_SN l D tc G bs own nm cc mL ret hh pc (a_i2l nx) := by
  refine ⟨fun G L st h r hr => ?_, ?_⟩
  · unfold a_i2l at hr
    (repeat' split at hr) <;> first | contradiction | (have e9 := Option.some.inj (show some _ = some r from hr); subst e9; exact mo_refl)
  intro p e R s m args below meth c d sl0 O X L st h r hr po hLn
  obtain ⟨hx, hb, hmL, hrt, hlk, hown, hts, hmn, w, hst, hR, hno⟩ := X
  unfold a_i2l at hr
  split at hr
  · rename_i x st
    have e9 := Option.some.inj (show some _ = some r from hr); subst e9
    exact kk_go (fun H ls locs cells slots q ww => lv_i2l hx hb hd rfl (by subst hn; exact ww)) po.2
  · exact nomatch hr
theorem sn_i2b (hd : decode cc pc = .ok (.i2b, 1)) (hn : pc + 1 = nx) : am_SN l D tc G bs own nm cc mL ret hh pc (a_i2b nx) := by
  refine ⟨fun G L st h r hr => ?_, ?_⟩
  · unfold a_i2b at hr
    (repeat' split at hr) <;> first | contradiction | (have e9 := Option.some.inj (show some _ = some r from hr); subst e9; exact mo_refl)
  intro p e R s m args below meth c d sl0 O X L st h r hr po hLn
  obtain ⟨hx, hb, hmL, hrt, hlk, hown, hts, hmn, w, hst, hR, hno⟩ := X
  unfold a_i2b at hr
  split at hr
  · rename_i x st
    have e9 := Option.some.inj (show some _ = some r from hr); subst e9
    exact kk_go (fun H ls locs cells slots q ww => lv_i2b hx hb hd rfl (by subst hn; exact ww)) po.2
  · exact nomatch hr
theorem sn_i2c (hd : decode cc pc = .ok (.i2c, 1)) (hn : pc + 1 = nx) : am_SN l D tc G bs own nm cc mL ret hh pc (a_i2c nx) := by
  refine ⟨fun G L st h r hr => ?_, ?_⟩
  · unfold a_i2c at hr
    (repeat' split at hr) <;> first | contradiction | (have e9 := Option.some.inj (show some _ = some r from hr); subst e9; exact mo_refl)
  intro p e R s m args below meth c d sl0 O X L st h r hr po hLn
  obtain ⟨hx, hb, hmL, hrt, hlk, hown, hts, hmn, w, hst, hR, hno⟩ := X
  unfold a_i2c at hr
  split at hr
  · rename_i x st
    have e9 := Option.some.inj (show some _ = some r from hr); subst e9
    exact kk_go (fun H ls locs cells slots q ww => lv_i2c hx hb hd rfl (by subst hn; exact ww)) po.2
  · exact nomatch hr
theorem sn_lcmp (hd : decode cc pc = .ok (.lcmp, 1)) (hn : pc + 1 = nx) : am_SN l D tc G bs own nm cc mL ret hh pc (a_lcmp nx) := by
  refine ⟨fun G L st h r hr => ?_, ?_⟩
  · unfold a_lcmp at hr
    (repeat' split at hr) <;> first | contradiction | (have e9 := Option.some.inj (show some _ = some r from hr); subst e9; exact mo_refl)
  intro p e R s m args below meth c d sl0 O X L st h r hr po hLn
  obtain ⟨hx, hb, hmL, hrt, hlk, hown, hts, hmn, w, hst, hR, hno⟩ := X
  unfold a_lcmp at hr
  split at hr
  · rename_i y x st
    have e9 := Option.some.inj (show some _ = some r from hr); subst e9
    exact kk_go (fun H ls locs cells slots q ww => W.lcmp hx hb hd (by subst hn; exact ww)) po.2
  · exact nomatch hr
theorem sn_idiv (hd : decode cc pc = .ok (.idiv, 1)) (hn : pc + 1 = nx) : am_SN l D tc G bs own nm cc mL ret hh pc (a_idiv nx) := by
  refine ⟨fun G L st h r hr => ?_, ?_⟩
  · unfold a_idiv at hr
    (repeat' split at hr) <;> first | contradiction | (have e9 := Option.some.inj (show some _ = some r from hr); subst e9; exact mo_refl)
  intro p e R s m args below meth c d sl0 O X L st h r hr po hLn
  obtain ⟨hx, hb, hmL, hrt, hlk, hown, hts, hmn, w, hst, hR, hno⟩ := X
  unfold a_idiv at hr
  split at hr
  · rename_i y x st
    split at hr
    · exact nomatch hr
    · rename_i hy
      have e9 := Option.some.inj (show some _ = some r from hr); subst e9
      exact kk_go (fun H ls locs cells slots q ww => lv_idiv hx hb hd hy (by subst hn; exact ww)) po.2
  · exact nomatch hr
theorem sn_irem (hd : decode cc pc = .ok (.irem, 1)) (hn : pc + 1 = nx) : am_SN l D tc G bs own nm cc mL ret hh pc (a_irem nx) := by
  refine ⟨fun G L st h r hr => ?_, ?_⟩
  · unfold a_irem at hr
    (repeat' split at hr) <;> first | contradiction | (have e9 := Option.some.inj (show some _ = some r from hr); subst e9; exact mo_refl)
  intro p e R s m args below meth c d sl0 O X L st h r hr po hLn
  obtain ⟨hx, hb, hmL, hrt, hlk, hown, hts, hmn, w, hst, hR, hno⟩ := X
  unfold a_irem at hr
  split at hr
  · rename_i y x st
    split at hr
    · exact nomatch hr
    · rename_i hy
      have e9 := Option.some.inj (show some _ = some r from hr); subst e9
      exact kk_go (fun H ls locs cells slots q ww => lv_irem hx hb hd hy (by subst hn; exact ww)) po.2
  · exact nomatch hr
theorem sn_dup (hd : decode cc pc = .ok (.dup, 1)) (hn : pc + 1 = nx) : am_SN l D tc G bs own nm cc mL ret hh pc (a_dup nx) := by
  refine ⟨fun G L st h r hr => ?_, ?_⟩
  · unfold a_dup at hr
    split at hr
    · rename_i v st
      cases h1 : (am_1 v) with
      | false => rw [h1] at hr; exact nomatch hr
      | true =>
        rw [h1] at hr
        have e9 := Option.some.inj (show some _ = some r from hr); subst e9
        exact mo_refl
    · exact nomatch hr
  intro p e R s m args below meth c d sl0 O X L st h r hr po hLn
  obtain ⟨hx, hb, hmL, hrt, hlk, hown, hts, hmn, w, hst, hR, hno⟩ := X
  unfold a_dup at hr
  split at hr
  · rename_i v st
    cases h1 : (am_1 v) with
    | false => rw [h1] at hr; exact nomatch hr
    | true =>
      rw [h1] at hr
      have e9 := Option.some.inj (show some _ = some r from hr); subst e9
      exact kk_go (fun H ls locs cells slots q ww => lv_dup hx hb hd (am_1c h1) (by subst hn; exact ww)) po.2
  · exact nomatch hr
theorem sn_pop (hd : decode cc pc = .ok (.pop, 1)) (hn : pc + 1 = nx) : am_SN l D tc G bs own nm cc mL ret hh pc (a_pop nx) := by
  refine ⟨fun G L st h r hr => ?_, ?_⟩
  · unfold a_pop at hr
    split at hr
    · rename_i v st
      cases h1 : (am_1 v) with
      | false => rw [h1] at hr; exact nomatch hr
      | true =>
        rw [h1] at hr
        have e9 := Option.some.inj (show some _ = some r from hr); subst e9
        exact mo_refl
    · exact nomatch hr
  intro p e R s m args below meth c d sl0 O X L st h r hr po hLn
  obtain ⟨hx, hb, hmL, hrt, hlk, hown, hts, hmn, w, hst, hR, hno⟩ := X
  unfold a_pop at hr
  split at hr
  · rename_i v st
    cases h1 : (am_1 v) with
    | false => rw [h1] at hr; exact nomatch hr
    | true =>
      rw [h1] at hr
      have e9 := Option.some.inj (show some _ = some r from hr); subst e9
      exact kk_go (fun H ls locs cells slots q ww => lv_pop hx hb hd (am_1c h1) (by subst hn; exact ww)) po.2
  · exact nomatch hr
theorem sn_dup2 (hd : decode cc pc = .ok (.dup2, 1)) (hn : pc + 1 = nx) : am_SN l D tc G bs own nm cc mL ret hh pc (a_dup2 nx) := by
  refine ⟨fun G L st h r hr => ?_, ?_⟩
  · unfold a_dup2 at hr
    split at hr
    · rename_i v w9 st
      cases h1 : (am_1 v && am_1 w9) with
      | false => rw [h1] at hr; exact nomatch hr
      | true =>
        rw [h1] at hr
        have e9 := Option.some.inj (show some _ = some r from hr); subst e9
        exact mo_refl
    · exact nomatch hr
  intro p e R s m args below meth c d sl0 O X L st h r hr po hLn
  obtain ⟨hx, hb, hmL, hrt, hlk, hown, hts, hmn, w, hst, hR, hno⟩ := X
  unfold a_dup2 at hr
  split at hr
  · rename_i v w9 st
    cases h1 : (am_1 v && am_1 w9) with
    | false => rw [h1] at hr; exact nomatch hr
    | true =>
      rw [h1] at hr
      simp only [Bool.and_eq_true] at h1
      have e9 := Option.some.inj (show some _ = some r from hr); subst e9
      exact kk_go (fun H ls locs cells slots q ww => lv_dup2_11 hx hb hd (am_1c h1.1) (am_1c h1.2) (by subst hn; exact ww)) po.2
  · exact nomatch hr
theorem sn_dup_x1 (hd : decode cc pc = .ok (.dup_x1, 1)) (hn : pc + 1 = nx) : am_SN l D tc G bs own nm cc mL ret hh pc (a_dup_x1 nx) := by
  refine ⟨fun G L st h r hr => ?_, ?_⟩
  · unfold a_dup_x1 at hr
    split at hr
    · rename_i v w9 st
      cases h1 : (am_1 v && am_1 w9) with
      | false => rw [h1] at hr; exact nomatch hr
      | true =>
        rw [h1] at hr
        have e9 := Option.some.inj (show some _ = some r from hr); subst e9
        exact mo_refl
    · exact nomatch hr
  intro p e R s m args below meth c d sl0 O X L st h r hr po hLn
  obtain ⟨hx, hb, hmL, hrt, hlk, hown, hts, hmn, w, hst, hR, hno⟩ := X
  unfold a_dup_x1 at hr
  split at hr
  · rename_i v w9 st
    cases h1 : (am_1 v && am_1 w9) with
    | false => rw [h1] at hr; exact nomatch hr
    | true =>
      rw [h1] at hr
      simp only [Bool.and_eq_true] at h1
      have e9 := Option.some.inj (show some _ = some r from hr); subst e9
      exact kk_go (fun H ls locs cells slots q ww => lv_dup_x1 hx hb hd (am_1c h1.1) (am_1c h1.2) (by subst hn; exact ww)) po.2
  · exact nomatch hr
theorem sn_ifeq {off : Int} {tg : Nat} (hd : decode cc pc = .ok (.ifCond .eq off, 3)) (ht : (pc : Int) + off = (tg : Int)) (hn : pc + 3 = nx) : am_SN l D tc G bs own nm cc mL ret hh pc (a_ifeq tg nx) := by
  refine ⟨fun G L st h r hr => ?_, ?_⟩
  · unfold a_ifeq at hr
    (repeat' split at hr) <;> first | contradiction | (have e9 := Option.some.inj (show some _ = some r from hr); subst e9; exact mo_refl)
  intro p e R s m args below meth c d sl0 O X L st h r hr po hLn
  obtain ⟨hx, hb, hmL, hrt, hlk, hown, hts, hmn, w, hst, hR, hno⟩ := X
  unfold a_ifeq at hr
  split at hr
  · rename_i x st
    split at hr <;> rename_i hc <;> (have e9 := Option.some.inj (show some _ = some r from hr); subst e9)
    · exact kk_go (fun H ls locs cells slots q ww => lv_if_eq hx hb hd ht (fun _ => ww) (fun z => absurd hc z)) po.2
    · exact kk_go (fun H ls locs cells slots q ww => lv_if_eq hx hb hd ht (fun z => absurd z hc) (fun _ => by subst hn; exact ww)) po.2
  · exact nomatch hr
theorem sn_iceq {off : Int} {tg : Nat} (hd : decode cc pc = .ok (.if_icmp .eq off, 3)) (ht : (pc : Int) + off = (tg : Int)) (hn : pc + 3 = nx) : am_SN l D tc G bs own nm cc mL ret hh pc (a_iceq tg nx) := by
  refine ⟨fun G L st h r hr => ?_, ?_⟩
  · unfold a_iceq at hr
    (repeat' split at hr) <;> first | contradiction | (have e9 := Option.some.inj (show some _ = some r from hr); subst e9; exact mo_refl)
  intro p e R s m args below meth c d sl0 O X L st h r hr po hLn
  obtain ⟨hx, hb, hmL, hrt, hlk, hown, hts, hmn, w, hst, hR, hno⟩ := X
  unfold a_iceq at hr
  split at hr
  · rename_i y x st
    split at hr <;> rename_i hc <;> (have e9 := Option.some.inj (show some _ = some r from hr); subst e9)
    · exact kk_go (fun H ls locs cells slots q ww => lv_icmp_eq hx hb hd ht (fun _ => ww) (fun z => absurd hc z)) po.2
    · exact kk_go (fun H ls locs cells slots q ww => lv_icmp_eq hx hb hd ht (fun z => absurd z hc) (fun _ => by subst hn; exact ww)) po.2
  · exact nomatch hr
theorem sn_ifne {off : Int} {tg : Nat} (hd : decode cc pc = .ok (.ifCond .ne off, 3)) (ht : (pc : Int) + off = (tg : Int)) (hn : pc + 3 = nx) : am_SN l D tc G bs own nm cc mL ret hh pc (a_ifne tg nx) := by
  refine ⟨fun G L st h r hr => ?_, ?_⟩
  · unfold a_ifne at hr
    (repeat' split at hr) <;> first | contradiction | (have e9 := Option.some.inj (show some _ = some r from hr); subst e9; exact mo_refl)
  intro p e R s m args below meth c d sl0 O X L st h r hr po hLn
  obtain ⟨hx, hb, hmL, hrt, hlk, hown, hts, hmn, w, hst, hR, hno⟩ := X
  unfold a_ifne at hr
  split at hr
  · rename_i x st
    split at hr <;> rename_i hc <;> (have e9 := Option.some.inj (show some _ = some r from hr); subst e9)
    · exact kk_go (fun H ls locs cells slots q ww => lv_if_ne hx hb hd ht (fun _ => ww) (fun z => absurd hc (fun q => q z))) po.2
    · exact kk_go (fun H ls locs cells slots q ww => lv_if_ne hx hb hd ht (fun z => absurd z hc) (fun _ => by subst hn; exact ww)) po.2
  · exact nomatch hr
theorem sn_icne {off : Int} {tg : Nat} (hd : decode cc pc = .ok (.if_icmp .ne off, 3)) (ht : (pc : Int) + off = (tg : Int)) (hn : pc + 3 = nx) : am_SN l D tc G bs own nm cc mL ret hh pc (a_icne tg nx) := by
  refine ⟨fun G L st h r hr => ?_, ?_⟩
  · unfold a_icne at hr
    (repeat' split at hr) <;> first | contradiction | (have e9 := Option.some.inj (show some _ = some r from hr); subst e9; exact mo_refl)
  intro p e R s m args below meth c d sl0 O X L st h r hr po hLn
  obtain ⟨hx, hb, hmL, hrt, hlk, hown, hts, hmn, w, hst, hR, hno⟩ := X
  unfold a_icne at hr
  split at hr
  · rename_i y x st
    split at hr <;> rename_i hc <;> (have e9 := Option.some.inj (show some _ = some r from hr); subst e9)
    · exact kk_go (fun H ls locs cells slots q ww => lv_icmp_ne hx hb hd ht (fun _ => ww) (fun z => absurd hc (fun q => q z))) po.2
    · exact kk_go (fun H ls locs cells slots q ww => lv_icmp_ne hx hb hd ht (fun z => absurd z hc) (fun _ => by subst hn; exact ww)) po.2
  · exact nomatch hr
theorem sn_iflt {off : Int} {tg : Nat} (hd : decode cc pc = .ok (.ifCond .lt off, 3)) (ht : (pc : Int) + off = (tg : Int)) (hn : pc + 3 = nx) : am_SN l D tc G bs own nm cc mL ret hh pc (a_iflt tg nx) := by
  refine ⟨fun G L st h r hr => ?_, ?_⟩
  · unfold a_iflt at hr
    (repeat' split at hr) <;> first | contradiction | (have e9 := Option.some.inj (show some _ = some r from hr); subst e9; exact mo_refl)
  intro p e R s m args below meth c d sl0 O X L st h r hr po hLn
  obtain ⟨hx, hb, hmL, hrt, hlk, hown, hts, hmn, w, hst, hR, hno⟩ := X
  unfold a_iflt at hr
  split at hr
  · rename_i x st
    split at hr <;> rename_i hc <;> (have e9 := Option.some.inj (show some _ = some r from hr); subst e9)
    · exact kk_go (fun H ls locs cells slots q ww => lv_if_lt hx hb hd ht (fun _ => ww) (fun z => absurd hc z)) po.2
    · exact kk_go (fun H ls locs cells slots q ww => lv_if_lt hx hb hd ht (fun z => absurd z hc) (fun _ => by subst hn; exact ww)) po.2
  · exact nomatch hr
theorem sn_iclt {off : Int} {tg : Nat} (hd : decode cc pc = .ok (.if_icmp .lt off, 3)) (ht : (pc : Int) + off = (tg : Int)) (hn : pc + 3 = nx) : am_SN l D tc G bs own nm cc mL ret hh pc (a_iclt tg nx) := by
  refine ⟨fun G L st h r hr => ?_, ?_⟩
  · unfold a_iclt at hr
    (repeat' split at hr) <;> first | contradiction | (have e9 := Option.some.inj (show some _ = some r from hr); subst e9; exact mo_refl)
  intro p e R s m args below meth c d sl0 O X L st h r hr po hLn
  obtain ⟨hx, hb, hmL, hrt, hlk, hown, hts, hmn, w, hst, hR, hno⟩ := X
  unfold a_iclt at hr
  split at hr
  · rename_i y x st
    split at hr <;> rename_i hc <;> (have e9 := Option.some.inj (show some _ = some r from hr); subst e9)
    · exact kk_go (fun H ls locs cells slots q ww => lv_icmp_lt hx hb hd ht (fun _ => ww) (fun z => absurd hc z)) po.2
    · exact kk_go (fun H ls locs cells slots q ww => lv_icmp_lt hx hb hd ht (fun z => absurd z hc) (fun _ => by subst hn; exact ww)) po.2
  · exact nomatch hr
theorem sn_ifge {off : Int} {tg : Nat} (hd : decode cc pc = .ok (.ifCond .ge off, 3)) (ht : (pc : Int) + off = (tg : Int)) (hn : pc + 3 = nx) : am_SN l D tc G bs own nm cc mL ret hh pc (a_ifge tg nx) := by
  refine ⟨fun G L st h r hr => ?_, ?_⟩
  · unfold a_ifge at hr
    (repeat' split at hr) <;> first | contradiction | (have e9 := Option.some.inj (show some _ = some r from hr); subst e9; exact mo_refl)
  intro p e R s m args below meth c d sl0 O X L st h r hr po hLn
  obtain ⟨hx, hb, hmL, hrt, hlk, hown, hts, hmn, w, hst, hR, hno⟩ := X
  unfold a_ifge at hr
  split at hr
  · rename_i x st
    split at hr <;> rename_i hc <;> (have e9 := Option.some.inj (show some _ = some r from hr); subst e9)
    · exact kk_go (fun H ls locs cells slots q ww => lv_if_ge hx hb hd ht (fun _ => ww) (fun z => absurd hc z)) po.2
    · exact kk_go (fun H ls locs cells slots q ww => lv_if_ge hx hb hd ht (fun z => absurd z hc) (fun _ => by subst hn; exact ww)) po.2
  · exact nomatch hr
theorem sn_icge {off : Int} {tg : Nat} (hd : decode cc pc = .ok (.if_icmp .ge off, 3)) (ht : (pc : Int) + off = (tg : Int)) (hn : pc + 3 = nx) : am_SN l D tc G bs own nm cc mL ret hh pc (a_icge tg nx) := by
  refine ⟨fun G L st h r hr => ?_, ?_⟩
  · unfold a_icge at hr
    (repeat' split at hr) <;> first | contradiction | (have e9 := Option.some.inj (show some _ = some r from hr); subst e9; exact mo_refl)
  intro p e R s m args below meth c d sl0 O X L st h r hr po hLn
  obtain ⟨hx, hb, hmL, hrt, hlk, hown, hts, hmn, w, hst, hR, hno⟩ := X
  unfold a_icge at hr
  split at hr
  · rename_i y x st
    split at hr <;> rename_i hc <;> (have e9 := Option.some.inj (show some _ = some r from hr); subst e9)
    · exact kk_go (fun H ls locs cells slots q ww => lv_icmp_ge hx hb hd ht (fun _ => ww) (fun z => absurd hc z)) po.2
    · exact kk_go (fun H ls locs cells slots q ww => lv_icmp_ge hx hb hd ht (fun z => absurd z hc) (fun _ => by subst hn; exact ww)) po.2
  · exact nomatch hr
theorem sn_ifgt {off : Int} {tg : Nat} (hd : decode cc pc = .ok (.ifCond .gt off, 3)) (ht : (pc : Int) + off = (tg : Int)) (hn : pc + 3 = nx) : am_SN l D tc G bs own nm cc mL ret hh pc (a_ifgt tg nx) := by
  refine ⟨fun G L st h r hr => ?_, ?_⟩
  · unfold a_ifgt at hr
    (repeat' split at hr) <;> first | contradiction | (have e9 := Option.some.inj (show some _ = some r from hr); subst e9; exact mo_refl)
  intro p e R s m args below meth c d sl0 O X L st h r hr po hLn
  obtain ⟨hx, hb, hmL, hrt, hlk, hown, hts, hmn, w, hst, hR, hno⟩ := X
  unfold a_ifgt at hr
  split at hr
  · rename_i x st
    split at hr <;> rename_i hc <;> (have e9 := Option.some.inj (show some _ = some r from hr); subst e9)
    · exact kk_go (fun H ls locs cells slots q ww => lv_if_gt hx hb hd ht (fun _ => ww) (fun z => absurd hc z)) po.2
    · exact kk_go (fun H ls locs cells slots q ww => lv_if_gt hx hb hd ht (fun z => absurd z hc) (fun _ => by subst hn; exact ww)) po.2
  · exact nomatch hr
theorem sn_icgt {off : Int} {tg : Nat} (hd : decode cc pc = .ok (.if_icmp .gt off, 3)) (ht : (pc : Int) + off = (tg : Int)) (hn : pc + 3 = nx) : am_SN l D tc G bs own nm cc mL ret hh pc (a_icgt tg nx) := by
  refine ⟨fun G L st h r hr => ?_, ?_⟩
  · unfold a_icgt at hr
    (repeat' split at hr) <;> first | contradiction | (have e9 := Option.some.inj (show some _ = some r from hr); subst e9; exact mo_refl)
  intro p e R s m args below meth c d sl0 O X L st h r hr po hLn
  obtain ⟨hx, hb, hmL, hrt, hlk, hown, hts, hmn, w, hst, hR, hno⟩ := X
  unfold a_icgt at hr
  split at hr
  · rename_i y x st
    split at hr <;> rename_i hc <;> (have e9 := Option.some.inj (show some _ = some r from hr); subst e9)
    · exact kk_go (fun H ls locs cells slots q ww => lv_icmp_gt hx hb hd ht (fun _ => ww) (fun z => absurd hc z)) po.2
    · exact kk_go (fun H ls locs cells slots q ww => lv_icmp_gt hx hb hd ht (fun z => absurd z hc) (fun _ => by subst hn; exact ww)) po.2
  · exact nomatch hr
theorem sn_ifle {off : Int} {tg : Nat} (hd : decode cc pc = .ok (.ifCond .le off, 3)) (ht : (pc : Int) + off = (tg : Int)) (hn : pc + 3 = nx) : am_SN l D tc G bs own nm cc mL ret hh pc (a_ifle tg nx) := by
  refine ⟨fun G L st h r hr => ?_, ?_⟩
  · unfold a_ifle at hr
    (repeat' split at hr) <;> first | contradiction | (have e9 := Option.some.inj (show some _ = some r from hr); subst e9; exact mo_refl)
  intro p e R s m args below meth c d sl0 O X L st h r hr po hLn
  obtain ⟨hx, hb, hmL, hrt, hlk, hown, hts, hmn, w, hst, hR, hno⟩ := X
  unfold a_ifle at hr
  split at hr
  · rename_i x st
    split at hr <;> rename_i hc <;> (have e9 := Option.some.inj (show some _ = some r from hr); subst e9)
    · exact kk_go (fun H ls locs cells slots q ww => lv_if_le hx hb hd ht (fun _ => ww) (fun z => absurd hc z)) po.2
    · exact kk_go (fun H ls locs cells slots q ww => lv_if_le hx hb hd ht (fun z => absurd z hc) (fun _ => by subst hn; exact ww)) po.2
  · exact nomatch hr
theorem sn_icle {off : Int} {tg : Nat} (hd : decode cc pc = .ok (.if_icmp .le off, 3)) (ht : (pc : Int) + off = (tg : Int)) (hn : pc + 3 = nx) : am_SN l D tc G bs own nm cc mL ret hh pc (a_icle tg nx) := by
  refine ⟨fun G L st h r hr => ?_, ?_⟩
  · unfold a_icle at hr
    (repeat' split at hr) <;> first | contradiction | (have e9 := Option.some.inj (show some _ = some r from hr); subst e9; exact mo_refl)
  intro p e R s m args below meth c d sl0 O X L st h r hr po hLn
  obtain ⟨hx, hb, hmL, hrt, hlk, hown, hts, hmn, w, hst, hR, hno⟩ := X
  unfold a_icle at hr
  split at hr
  · rename_i y x st
    split at hr <;> rename_i hc <;> (have e9 := Option.some.inj (show some _ = some r from hr); subst e9)
    · exact kk_go (fun H ls locs cells slots q ww => lv_icmp_le hx hb hd ht (fun _ => ww) (fun z => absurd hc z)) po.2
    · exact kk_go (fun H ls locs cells slots q ww => lv_icmp_le hx hb hd ht (fun z => absurd z hc) (fun _ => by subst hn; exact ww)) po.2
  · exact nomatch hr
theorem sn_aceq {off : Int} {tg : Nat} (hd : decode cc pc = .ok (.if_acmp .eq off, 3)) (ht : (pc : Int) + off = (tg : Int)) (hn : pc + 3 = nx) : am_SN l D tc G bs own nm cc mL ret hh pc (a_aceq tg nx) := by
  refine ⟨fun G L st h r hr => ?_, ?_⟩
  · unfold a_aceq at hr
    (repeat' split at hr) <;> first | contradiction | (have e9 := Option.some.inj (show some _ = some r from hr); subst e9; exact mo_refl)
  intro p e R s m args below meth c d sl0 O X L st h r hr po hLn
  obtain ⟨hx, hb, hmL, hrt, hlk, hown, hts, hmn, w, hst, hR, hno⟩ := X
  unfold a_aceq at hr
  split at hr
  · rename_i w9 v9 st
    split at hr
    · rename_i hc
      obtain ⟨rx, ry, rfl, rfl, e1⟩ := am_same_spec hc
      have e9 := Option.some.inj (show some _ = some r from hr); subst e9
      exact kk_go (fun H ls locs cells slots q ww => lv_acmp_eq hx hb hd ht (fun z => ww) (fun z => absurd (e1.mp rfl) z)) po.2
    · rename_i hc
      obtain ⟨rx, ry, rfl, rfl, e1⟩ := am_same_spec hc
      have e9 := Option.some.inj (show some _ = some r from hr); subst e9
      exact kk_go (fun H ls locs cells slots q ww => lv_acmp_eq hx hb hd ht (fun z => absurd (e1.mpr z) (by decide)) (fun z => by subst hn; exact ww)) po.2
    · exact nomatch hr
  · exact nomatch hr
theorem sn_acne {off : Int} {tg : Nat} (hd : decode cc pc = .ok (.if_acmp .ne off, 3)) (ht : (pc : Int) + off = (tg : Int)) (hn : pc + 3 = nx) : am_SN l D tc G bs own nm cc mL ret hh pc (a_acne tg nx) := by
  refine ⟨fun G L st h r hr => ?_, ?_⟩
  · unfold a_acne at hr
    (repeat' split at hr) <;> first | contradiction | (have e9 := Option.some.inj (show some _ = some r from hr); subst e9; exact mo_refl)
  intro p e R s m args below meth c d sl0 O X L st h r hr po hLn
  obtain ⟨hx, hb, hmL, hrt, hlk, hown, hts, hmn, w, hst, hR, hno⟩ := X
  unfold a_acne at hr
  split at hr
  · rename_i w9 v9 st
    split at hr
    · rename_i hc
      obtain ⟨rx, ry, rfl, rfl, e1⟩ := am_same_spec hc
      have e9 := Option.some.inj (show some _ = some r from hr); subst e9
      exact kk_go (fun H ls locs cells slots q ww => lv_acmp_ne hx hb hd ht (fun z => absurd (e1.mp rfl) z) (fun z => by subst hn; exact ww)) po.2
    · rename_i hc
      obtain ⟨rx, ry, rfl, rfl, e1⟩ := am_same_spec hc
      have e9 := Option.some.inj (show some _ = some r from hr); subst e9
      exact kk_go (fun H ls locs cells slots q ww => lv_acmp_ne hx hb hd ht (fun z => ww) (fun z => absurd (e1.mpr z) (by decide))) po.2
    · exact nomatch hr
  · exact nomatch hr
theorem sn_ifnull {off : Int} {tg : Nat} (hd : decode cc pc = .ok (.ifnull off, 3)) (ht : (pc : Int) + off = (tg : Int)) (hn : pc + 3 = nx) : am_SN l D tc G bs own nm cc mL ret hh pc (a_ifnull tg nx) := by
  refine ⟨fun G L st h r hr => ?_, ?_⟩
  · unfold a_ifnull at hr
    (repeat' split at hr) <;> first | contradiction | (have e9 := Option.some.inj (show some _ = some r from hr); subst e9; exact mo_refl)
  intro p e R s m args below meth c d sl0 O X L st h r hr po hLn
  obtain ⟨hx, hb, hmL, hrt, hlk, hown, hts, hmn, w, hst, hR, hno⟩ := X
  unfold a_ifnull at hr
  split at hr
  · rename_i st
    have e9 := Option.some.inj (show some _ = some r from hr); subst e9
    exact kk_go (fun H ls locs cells slots q ww => lv_ifnullN hx hb hd ht ww) po.2
  · rename_i a9 st
    have e9 := Option.some.inj (show some _ = some r from hr); subst e9
    exact kk_go (fun H ls locs cells slots q ww => lv_ifnull hx hb hd (by subst hn; exact ww)) po.2
  · exact nomatch hr
theorem sn_ifnonnull {off : Int} {tg : Nat} (hd : decode cc pc = .ok (.ifnonnull off, 3)) (ht : (pc : Int) + off = (tg : Int)) (hn : pc + 3 = nx) : am_SN l D tc G bs own nm cc mL ret hh pc (a_ifnonnull tg nx) := by
  refine ⟨fun G L st h r hr => ?_, ?_⟩
  · unfold a_ifnonnull at hr
    (repeat' split at hr) <;> first | contradiction | (have e9 := Option.some.inj (show some _ = some r from hr); subst e9; exact mo_refl)
  intro p e R s m args below meth c d sl0 O X L st h r hr po hLn
  obtain ⟨hx, hb, hmL, hrt, hlk, hown, hts, hmn, w, hst, hR, hno⟩ := X
  unfold a_ifnonnull at hr
  split at hr
  · rename_i st
    have e9 := Option.some.inj (show some _ = some r from hr); subst e9
    exact kk_go (fun H ls locs cells slots q ww => lv_ifnonnullN hx hb hd (by subst hn; exact ww)) po.2
  · rename_i a9 st
    have e9 := Option.some.inj (show some _ = some r from hr); subst e9
    exact kk_go (fun H ls locs cells slots q ww => lv_ifnonnull hx hb hd ht ww) po.2
  · exact nomatch hr
theorem sn_goto {off : Int} {tg : Nat} (hd : decode cc pc = .ok (.goto off, 3)) (ht : (pc : Int) + off = (tg : Int)) : am_SN l D tc G bs own nm cc mL ret hh pc (a_goto tg) := by
  refine ⟨fun G L st h r hr => ?_, ?_⟩
  · (have e9 := Option.some.inj (show some _ = some r from hr); subst e9; exact mo_refl)
  intro p e R s m args below meth c d sl0 O X L st h r hr po hLn
  obtain ⟨hx, hb, hmL, hrt, hlk, hown, hts, hmn, w, hst, hR, hno⟩ := X
  have e9 := Option.some.inj (show some _ = some r from hr); subst e9
  exact kk_go (fun H ls locs cells slots q ww => lv_goto hx hb hd ht ww) po.2
end
