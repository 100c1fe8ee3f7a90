/-! SOUND: a run of the abstract machine is a run of the real one. Words: am_RP what the real heap holds of an abstract one; am_LR the locals; am_KK from here on (W for every real heap and locals that are so); am_SN one instruction -/
set_option maxRecDepth 100000
abbrev am_cl : List vw_C := [(RX1, TX1, 11), (RX2, TX2, 22), (RX3, TX3, 7), (RX4, TX4, 8), (RJ2, TJ2, 3), (RX5, TX5, 8), (RJ4, TJ4, 4), (RJ5, TJ5, 4), (RX8, TX8, 1), (RX10, TX10, 3), (RX11, TX11, 2), (RX12, TX12, 1), (RX13, TX13, 1), (RX14, TX14, 1), (RX15, TX15, 2), (RX17, TX17, 2), (RX6, TX6, 23), (RX7, TX7, 6)]
/-- a class's name by its number -/
def am_nm (c : Nat) : String := match c with
  | 18 => "java/lang/IllegalArgumentException" | 19 => "java/lang/UnsupportedOperationException" | 20 => "java/lang/IndexOutOfBoundsException" | 21 => "java/util/NoSuchElementException" | 22 => "java/lang/IllegalStateException"
  | 23 => "StoneBacks$Kind" | 24 => "StoneBacks$Fact"
  | c => (am_cl.getD c ("", TX1, 0)).1
def am_ty (t : Nat) : FieldType := match t with
  | 0 => .int | 1 => .boolean | 2 => .byte | 3 => .long | 4 => .object "java/lang/Object" | 5 => .object "StoneBacks$Kind" | _ => .object "StoneBacks$Fact"
def am_tys (tc : Nat → ClassId) : List (ClassId × FieldType) := [(tc 0, am_ty 0), (tc 1, am_ty 1), (tc 2, am_ty 2), (tc 3, am_ty 3), (tc 4, am_ty 4), (tc 5, am_ty 5), (tc 6, am_ty 6)]
theorem am_tys_at {tc : Nat → ClassId} {t : Nat} (h : t < 7) : (am_tys tc)[t]? = some (tc t, am_ty t) := by
  match t, h with
  | 0, _ => rfl | 1, _ => rfl | 2, _ => rfl | 3, _ => rfl | 4, _ => rfl | 5, _ => rfl | 6, _ => rfl
def am_e (tc : Nat → ClassId) : am_C → va_E
  | .inl (t, x) => .inl (tc t, x)
  | .inr o => .inr o
/-- the j-th value of an array -/
def am_av (x : (Nat → Int32) ⊕ (Nat → Int64) ⊕ (Nat → UInt32) ⊕ (Nat → UInt64) ⊕ (Nat → Option Nat)) (j : Nat) : Value := match x with
  | .inl f => .int (f j)
  | .inr (.inl f) => .long (f j)
  | .inr (.inr (.inl f)) => .float (f j)
  | .inr (.inr (.inr (.inl f))) => .double (f j)
  | .inr (.inr (.inr (.inr f))) => va_rf (f j)
/-- is it new, or was it there before -/
def am_old : am_C → Bool
  | .inl (t, _) => Nat.ble 100 t
  | .inr (c, _) => Nat.ble 100 c
/-- what is so of a new cell, and of one that was there before -/
def am_ok (D : va_G) (tc : Nat → ClassId) (bs : Nat) (s : State) (h : am_H) (H : Heap) (a : Nat) : am_C → Prop
  | .inl (t, n, x) => if t < 100 then t < 7 ∧ (∀ j, j < n → fits (am_ty t) (am_av x j) = true) ∧ (t = 4 → ∀ j y, j < n → am_av x j = .ref y → ∃ c fs, h.1 y = some (.inr (c, fs)))
    else t < 107 ∧ a < bs ∧ ∃ cell : Cell, H[a]? = some cell ∧ s.isArrayOf cell (am_ty (t - 100)) ∧ cell.vm ≠ .unknown ∧ n ≤ cell.slots.size ∧ cell.slots.size.toInt32 = Int32.ofNat n ∧ (∀ j, j < n → cell.slots[j]? = some (am_av x j)) ∧ (104 ≤ t → cell.cls = tc (t - 100) ∧ cell.vm.isStatics = false ∧ cell.slots.size = n ∧ ∃ f, x = .inr (.inr (.inr (.inr f))))
  | .inr (c, fs) => if c < 100 then c < 18 ∧ ∀ q, am_cl[c]? = some q → fs.length = q.2.2
    else (c < 125 ∧ a < bs) ∧ ∃ cell : Cell, H[a]? = some cell ∧ cell.vm ≠ .unknown ∧ cell.vm.isStatics = false ∧ s.vm.findClass (am_nm (c - 100)) = some cell.cls ∧ ∀ i v, am_ix fs i = some v → cell.slots[D.2 (c - 100) i]? = some v
def am_RP (D : va_G) (tc : Nat → ClassId) (bs : Nat) (s : State) (h : am_H) (H : Heap) : Prop :=
  H.size = h.2.1 ∧ (∃ ws : va_W, va_P D am_cl ws H ∧ va_D (fun q => bs ≤ q) ws ∧ ∀ a e, h.1 a = some e → am_old e = false → ∃ k : Nat, ws[k]? = some (a, am_e tc e)) ∧ ∀ a e, h.1 a = some e → am_ok D tc bs s h H a e
def am_LR (ls : Array Slot) (n : Nat) (L : List Value) : Prop := L.length = n ∧ ∃ lv, lv_has ls n lv ∧ ∀ i v, am_ix L i = some v → v = am_un ∨ ((i, v) ∈ lv ∧ am_1 v = true)
theorem am_ix_lt : ∀ {L : List Value} {i : Nat} {v : Value}, am_ix L i = some v → i < L.length
  | [], _, _, h => nomatch h
  | _ :: _, 0, _, _ => Nat.succ_pos _
  | _ :: _, i + 1, _, h => Nat.succ_lt_succ (am_ix_lt (i := i) h)
theorem am_ix_get : ∀ {L : List Value} {i : Nat}, am_ix L i = L[i]?
  | [], _ => rfl
  | _ :: _, 0 => rfl
  | _ :: r, i + 1 => by rw [List.getElem?_cons_succ]; exact am_ix_get (L := r)
theorem am_st_set : ∀ {L : List Value} {i : Nat} {v : Value}, am_st L i v = L.set i v
  | [], _, _ => rfl
  | _ :: _, 0, _ => rfl
  | x :: r, i + 1, v => by rw [List.set_cons_succ]; show x :: am_st r i v = _; rw [am_st_set]
theorem am_LR.get {ls : Array Slot} {n : Nat} {L : List Value} {i : Nat} {v : Value} (h : am_LR ls n L) (hi : am_ix L i = some v) (hv : am_1 v = true) : ls[i]? = some (.val v) := by
  obtain ⟨-, lv, h1, h2⟩ := h
  rcases h2 i v hi with rfl | ⟨q, -⟩
  · cases hv
  · exact h1.2.2 _ q
theorem am_LR.size {ls : Array Slot} {n : Nat} {L : List Value} (h : am_LR ls n L) : ls.size = n := by
  obtain ⟨-, lv, h1, -⟩ := h
  exact h1.1
theorem am_1c {v : Value} (h : am_1 v = true) : v.category = 1 := by cases v <;> first | rfl | cases h
theorem am_LR.set {ls' : Array Slot} {n : Nat} {L : List Value} {i : Nat} {v : Value} {lv : List (Nat × Value)} (hL : L.length = n) (h2 : ∀ i v, am_ix L i = some v → v = am_un ∨ ((i, v) ∈ lv ∧ am_1 v = true)) (hv : am_1 v = true) (h : lv_has ls' n ((i, v) :: lv.filter (fun q => !(q.1 == i) && !(q.1 + 1 == i && q.2.category == 2)))) : am_LR ls' n (am_st L i v) := by
  refine ⟨by rw [am_st_set, List.length_set]; exact hL, _, h, fun j w hj => ?_⟩
  rw [am_ix_get, am_st_set] at hj
  by_cases q : j = i
  · subst q
    have hlt : j < L.length := by
      have := (List.getElem?_eq_some_iff.mp hj).1
      rwa [List.length_set] at this
    rw [List.getElem?_set_self hlt] at hj
    cases hj
    exact Or.inr ⟨List.mem_cons_self, hv⟩
  · rw [List.getElem?_set_ne (Ne.symm q), ← am_ix_get] at hj
    rcases h2 j w hj with e | ⟨e1, e2⟩
    · exact Or.inl e
    · refine Or.inr ⟨List.mem_cons_of_mem _ (List.mem_filter.mpr ⟨e1, ?_⟩), e2⟩
      have c1 := am_1c e2
      simp [q, c1]
theorem am_LR.un {ls : Array Slot} {n : Nat} {L : List Value} {i : Nat} {lv : List (Nat × Value)} {x : Value} (hL : L.length = n) (h2 : ∀ i v, am_ix L i = some v → v = am_un ∨ ((i, v) ∈ lv ∧ am_1 v = true)) (h : lv_has ls n ((i, x) :: lv.filter (fun q => !(q.1 == i) && !(q.1 + 1 == i && q.2.category == 2)))) : am_LR ls n (am_st L i am_un) := by
  refine ⟨by rw [am_st_set, List.length_set]; exact hL, _, h, fun j w hj => ?_⟩
  rw [am_ix_get, am_st_set] at hj
  by_cases q : j = i
  · subst q
    have hlt : j < L.length := by
      have := (List.getElem?_eq_some_iff.mp hj).1
      rwa [List.length_set] at this
    rw [List.getElem?_set_self hlt] at hj
    cases hj
    exact Or.inl rfl
  · rw [List.getElem?_set_ne (Ne.symm q), ← am_ix_get] at hj
    rcases h2 j w hj with e | ⟨e1, e2⟩
    · exact Or.inl e
    · refine Or.inr ⟨List.mem_cons_of_mem _ (List.mem_filter.mpr ⟨e1, ?_⟩), e2⟩
      have c1 := am_1c e2
      simp [q, c1]
section
variable {p : Program} {l : Launch} {e : Env} {R : Room} {s : State} {m : MethodId} {args : Array Value} {below : List Frame} {meth : Method} {c : Code} {H : Heap} {locs : List Loc} {cells slots : Nat} {Q : State → Prop}
theorem am_size {g : JFrame} (k : H.size ≤ s.heap.size + cells → W p l e R s m args below meth c H locs cells slots Q g) : W p l e R s m args below meth c H locs cells slots Q g := fun T hT X => k (by rw [← hT]; exact X.heapSize) T hT X
end
def am_KK (p : Program) (l : Launch) (e : Env) (R : Room) (s : State) (m : MethodId) (args : Array Value) (below : List Frame) (meth : Method) (c : Code) (Q : State → Prop) (D : va_G) (tc : Nat → ClassId) (bs sl0 : Nat) (pc : Nat) (L st : List Value) (h : am_H) : Prop :=
  ∀ (H : Heap) (ls : Array Slot) (locs : List Loc) (cells slots : Nat), am_RP D tc bs s h H → am_LR ls c.maxLocals L → va_S (fun q => bs ≤ q) s.heap H locs → s.heap.size + cells = h.2.1 → sl0 + slots = h.2.2 → W p l e R s m args below meth c H locs cells slots Q (F0 m pc ls st)
section
variable {p : Program} {l : Launch} {e : Env} {R : Room} {s : State} {m : MethodId} {args : Array Value} {below : List Frame} {meth : Method} {c : Code} {Q : State → Prop} {D : va_G} {tc : Nat → ClassId} {bs sl0 : Nat} {pc nx tg : Nat} {L st : List Value} {h : am_H} {cc : ByteArray}
/-- an instruction that leaves the heap and the locals as they are -/
theorem kk_go {pc' : Nat} {st' : List Value} (hr : ∀ (H : Heap) (ls : Array Slot) (locs : List Loc) (cells slots : Nat), am_LR ls c.maxLocals L → W p l e R s m args below meth c H locs cells slots Q (F0 m pc' ls st') → W p l e R s m args below meth c H locs cells slots Q (F0 m pc ls st)) (k : am_KK p l e R s m args below meth c Q D tc bs sl0 pc' L st' h) : am_KK p l e R s m args below meth c Q D tc bs sl0 pc L st h :=
  fun H ls locs cells slots r1 r2 r3 r4 r5 => hr H ls locs cells slots r2 (k H ls locs cells slots r1 r2 r3 r4 r5)
variable (hx : p.tables.exec = Jvm.exec) (hb : c.code = cc)
theorem kk_iload_n {i : Nat} {v : Int32} {k' : Fin 4} (hd : decode cc pc = .ok (.iload_n k', 1)) (hi : (k' : Nat) = i) (hv : am_ix L i = some (.int v)) (hx : p.tables.exec = Jvm.exec) (hb : c.code = cc) (k : am_KK p l e R s m args below meth c Q D tc bs sl0 (pc + 1) L (.int v :: st) h) : am_KK p l e R s m args below meth c Q D tc bs sl0 pc L st h :=
  kk_go (fun H ls locs cells slots q w => lv_iload_n hx hb hd hi (q.get hv rfl) w) k
theorem kk_istore_n {i : Nat} {v : Int32} {k' : Fin 4} (hd : decode cc pc = .ok (.istore_n k', 1)) (hi : (k' : Nat) = i) (hn : i < c.maxLocals) (hx : p.tables.exec = Jvm.exec) (hb : c.code = cc) (k : am_KK p l e R s m args below meth c Q D tc bs sl0 (pc + 1) (am_st L i (.int v)) st h) : am_KK p l e R s m args below meth c Q D tc bs sl0 pc L (.int v :: st) h := by
  intro H ls locs cells slots r1 r2 r3 r4 r5
  obtain ⟨hL, lv, h1, h2⟩ := r2
  exact lv_istore_n hx hb hd hi h1 hn rfl (fun ls' q => k H ls' locs cells slots r1 (am_LR.set hL h2 rfl q) r3 r4 r5)
end
section
variable {D : va_G} {tc : Nat → ClassId} {bs : Nat} {s : State} {h : am_H} {H : Heap} {a : Nat}
theorem am_blef {t : Nat} (q : t < 100) : Nat.ble 100 t = false := by
  cases z : Nat.ble 100 t with
  | false => rfl
  | true => exact absurd (Nat.le_of_ble_eq_true z) (by omega)
theorem arrV_len (cA : ClassId) (n : Nat) (F : Nat → Value) : (arrV cA n F).slots.size = n := arrV_size _ _ _
/-- an array, new or old, as it can be read -/
theorem am_RP.arr (r : am_RP D tc bs s h H) (hK : va_K D am_cl (am_tys tc) s) {t n : Nat} {x : (Nat → Int32) ⊕ (Nat → Int64) ⊕ (Nat → UInt32) ⊕ (Nat → UInt64) ⊕ (Nat → Option Nat)} (ha : h.1 a = some (.inl (t, n, x))) :
    ∃ cell : Cell, H[a]? = some cell ∧ s.isArrayOf cell (am_ty (am_z t)) ∧ cell.vm ≠ .unknown ∧ n ≤ cell.slots.size ∧ cell.slots.size.toInt32 = Int32.ofNat n ∧ ∀ j, j < n → cell.slots[j]? = some (am_av x j) := by
  obtain ⟨-, ⟨ws, hP, hD, hw⟩, hok⟩ := r
  have k := hok a _ ha
  by_cases q : t < 100
  · simp only [am_ok, if_pos q] at k
    obtain ⟨k1, hw⟩ := hw a _ ha (am_blef q)
    have hc : H[a]? = some (vp_cell (tc t) (n, x)) := hP k1 _ hw
    have hz : am_z t = t := if_pos q
    have hA := (hK.2 t _ (am_tys_at k.1)).1
    refine ⟨_, hc, ?_, ?_, ?_, ?_, ?_⟩
    · rw [hz]; obtain f | f | f | f | f := x <;> exact hA _ _
    · obtain f | f | f | f | f := x <;> exact fun z => by cases z
    · obtain f | f | f | f | f := x <;> exact Nat.le_of_eq (arrV_len _ _ _).symm
    · obtain f | f | f | f | f := x <;> (show (arrV _ _ _).slots.size.toInt32 = _; rw [arrV_len])
    · intro j hj
      obtain f | f | f | f | f := x <;> exact arrV_read _ _ hj
  · simp only [am_ok, if_neg q] at k
    obtain ⟨-, -, cell, h1, h2, h3, h4, h5, h6, -⟩ := k
    have hz : am_z t = t - 100 := if_neg q
    exact ⟨cell, h1, by rw [hz]; exact h2, h3, h4, h5, h6⟩
/-- an object, new or old, as it can be read -/
theorem am_RP.obj (r : am_RP D tc bs s h H) (hK : va_K D am_cl (am_tys tc) s) {c : Nat} {fs : List Value} (ha : h.1 a = some (.inr (c, fs))) :
    ∃ cell : Cell, H[a]? = some cell ∧ cell.vm ≠ .unknown ∧ cell.vm.isStatics = false ∧ s.vm.findClass (am_nm (am_z c)) = some cell.cls ∧ ∀ i v, am_ix fs i = some v → cell.slots[D.2 (am_z c) i]? = some v := by
  obtain ⟨-, ⟨ws, hP, hD, hw⟩, hok⟩ := r
  have k := hok a _ ha
  by_cases q : c < 100
  · simp only [am_ok, if_pos q] at k
    obtain ⟨k1, hw⟩ := hw a _ ha (am_blef q)
    obtain ⟨rr, h1, cell, g1, g2, g3, g4⟩ := hP k1 _ hw
    have hz : am_z c = c := if_pos q
    have hnm : am_nm c = rr.1 := by
      have hd : am_cl.getD c ("", TX1, 0) = rr := by rw [List.getD_eq_getElem?_getD]; dsimp only at h1; rw [h1]; rfl
      have hlt := k.1
      unfold am_nm
      split <;> first | omega | rw [hd]
    refine ⟨cell, g1, (by rw [g3]; exact fun z => (nomatch z)), (by rw [g3]; rfl), ?_, fun i v hv => ?_⟩
    · rw [hz, hnm, g2]
      exact (hK.1 c rr h1).2.1
    · rw [hz]
      have hl : i < rr.2.2 := by have := am_ix_lt hv; rw [k.2 rr h1] at this; exact this
      rw [g4 i hl]
      rw [am_ix_get] at hv
      simp only [vp_V, List.getD_eq_getElem?_getD, hv, Option.getD_some]
  · simp only [am_ok, if_neg q] at k
    obtain ⟨-, cell, h1, h2, h3, h4, h5⟩ := k
    have hz : am_z c = c - 100 := if_neg q
    exact ⟨cell, h1, h2, h3, by rw [hz]; exact h4, by rw [hz]; exact h5⟩
theorem am_ok.mono {h' : am_H} {H1 : Heap} (hr : ∀ y c fs, h.1 y = some (.inr (c, fs)) → ∃ c fs, h'.1 y = some (.inr (c, fs))) (ho : ∀ q, q < bs → H1[q]? = H[q]?) {e : am_C} (k : am_ok D tc bs s h H a e) : am_ok D tc bs s h' H1 a e := by
  match e, k with
  | .inl (t, n, x), k =>
    by_cases q : t < 100
    · simp only [am_ok, if_pos q] at k ⊢
      refine ⟨k.1, k.2.1, fun h4 j y hj hy => ?_⟩
      obtain ⟨c, fs, z⟩ := k.2.2 h4 j y hj hy
      exact hr y c fs z
    · simp only [am_ok, if_neg q] at k ⊢
      obtain ⟨k0, k1, cell, k2, k3⟩ := k
      exact ⟨k0, k1, cell, by rw [ho a k1]; exact k2, k3⟩
  | .inr (c, fs), k =>
    by_cases q : c < 100
    · simp only [am_ok, if_pos q] at k ⊢
      exact k
    · simp only [am_ok, if_neg q] at k ⊢
      obtain ⟨k1, cell, k2, k3⟩ := k
      exact ⟨k1, cell, by rw [ho a k1.2]; exact k2, k3⟩
theorem am_set_eq {e' : am_C} : (am_set h a e').1 a = some e' := if_pos rfl
theorem am_set_nq {e' : am_C} {b : Nat} (q : b ≠ a) : (am_set h a e').1 b = h.1 b := if_neg q
theorem am_RP.set {H1 : Heap} {ws : va_W} {k : Nat} {e e' : am_C} (r : am_RP D tc bs s h H) (hD0 : va_D (fun q => bs ≤ q) ws) (hw : ∀ a e, h.1 a = some e → am_old e = false → ∃ k : Nat, ws[k]? = some (a, am_e tc e)) (hk : ws[k]? = some (a, am_e tc e)) (ha : h.1 a = some e)
    (hP : va_P D am_cl (ws.set k (a, am_e tc e')) H1) (hD : va_D (fun q => bs ≤ q) (ws.set k (a, am_e tc e'))) (hz : H1.size = H.size) (ho : ∀ q, q < bs → H1[q]? = H[q]?) (ho1 : ∀ o, e = .inr o → ∃ o', e' = .inr o') (hok : am_ok D tc bs s (am_set h a e') H1 a e') : am_RP D tc bs s (am_set h a e') H1 := by
  have hl := (List.getElem?_eq_some_iff.mp hk).1
  have hr : ∀ y c fs, h.1 y = some (.inr (c, fs)) → ∃ c fs, (am_set h a e').1 y = some (.inr (c, fs)) := by
    intro y c fs q
    by_cases z : y = a
    · subst z
      rw [ha] at q
      obtain ⟨o', ho'⟩ := ho1 _ (Option.some.inj q)
      exact ⟨o'.1, o'.2, by rw [am_set_eq, ho']⟩
    · exact ⟨c, fs, by rw [am_set_nq z]; exact q⟩
  refine ⟨hz.trans r.1, ⟨_, hP, hD, fun b x hb hx => ?_⟩, fun b x hb => ?_⟩
  · by_cases z : b = a
    · subst z
      rw [am_set_eq] at hb
      cases hb
      exact ⟨k, List.getElem?_set_self hl⟩
    · rw [am_set_nq z] at hb
      obtain ⟨k', hk'⟩ := hw b x hb hx
      refine ⟨k', ?_⟩
      rw [List.getElem?_set_ne (fun q => z ?_)]
      · exact hk'
      · subst q
        rw [hk] at hk'
        exact (Prod.mk.inj (Option.some.inj hk')).1.symm
  · by_cases z : b = a
    · subst z
      rw [am_set_eq] at hb
      cases hb
      exact hok
    · rw [am_set_nq z] at hb
      exact (r.2.2 b x hb).mono hr ho
theorem am_RP.lt (r : am_RP D tc bs s h H) {e : am_C} (ha : h.1 a = some e) : a < h.2.1 := by
  rw [← r.1]
  by_cases q : am_old e = false
  · obtain ⟨ws, hP, -, hw⟩ := r.2.1
    obtain ⟨k, hk⟩ := hw a e ha q
    exact (hP k _ hk).lt
  · have k := r.2.2 a e ha
    match e, q, k with
    | .inl (t, n, x), q, k =>
      have z : ¬ t < 100 := fun z => q (am_blef z)
      simp only [am_ok, if_neg z] at k
      obtain ⟨-, -, cell, k2, -⟩ := k
      exact (Array.getElem?_eq_some_iff.mp k2).1
    | .inr (c, fs), q, k =>
      have z : ¬ c < 100 := fun z => q (am_blef z)
      simp only [am_ok, if_neg z] at k
      obtain ⟨-, cell, k2, -⟩ := k
      exact (Array.getElem?_eq_some_iff.mp k2).1
theorem am_RP.new {H1 : Heap} {e : am_C} {n : Nat} (r : am_RP D tc bs s h H) (hb : bs ≤ H.size) (hat : va_at D am_cl (H.size, am_e tc e) H1) (hz : H1.size = H.size + 1) (hk : ∀ q, q < H.size → H1[q]? = H[q]?) (ho : am_old e = false) (hok : am_ok D tc bs s (am_new h e n) H1 h.2.1 e) : am_RP D tc bs s (am_new h e n) H1 := by
  obtain ⟨ws, hP, hD, hw⟩ := r.2.1
  have hne : ∀ b x, h.1 b = some x → b ≠ h.2.1 := fun b x q => Nat.ne_of_lt (r.lt q)
  have hr : ∀ y c fs, h.1 y = some (.inr (c, fs)) → ∃ c fs, (am_new h e n).1 y = some (.inr (c, fs)) := fun y c fs q => ⟨c, fs, (if_neg (hne y _ q)).trans q⟩
  refine ⟨by rw [hz, r.1]; rfl, ⟨ws ++ [(H.size, am_e tc e)], (hP.kept (fun k q hq => hk q.1 (hP k q hq).lt)).app (fun k q hq => ?_), hD.push hP rfl hb, fun b x hb' hx => ?_⟩, fun b x hb' => ?_⟩
  · have hz : k < 1 := (List.getElem?_eq_some_iff.mp hq).1
    rw [show k = 0 by omega] at hq
    cases hq
    exact hat
  · by_cases z : b = h.2.1
    · have hb2 : some e = some x := (if_pos z).symm.trans hb'
      cases hb2
      refine ⟨ws.length, ?_⟩
      rw [List.getElem?_append_right (Nat.le_refl _), Nat.sub_self, z, r.1]
      rfl
    · have hb2 : h.1 b = some x := (if_neg z).symm.trans hb'
      obtain ⟨k, hk'⟩ := hw b x hb2 hx
      exact ⟨k, by rw [List.getElem?_append_left (List.getElem?_eq_some_iff.mp hk').1]; exact hk'⟩
  · by_cases z : b = h.2.1
    · have hb2 : some e = some x := (if_pos z).symm.trans hb'
      cases hb2
      rw [z]
      exact hok
    · have hb2 : h.1 b = some x := (if_neg z).symm.trans hb'
      exact (r.2.2 b x hb2).mono hr (fun q hq => hk q (Nat.lt_of_lt_of_le hq hb))
theorem am_RP.skip {H1 : Heap} {n : Nat} (r : am_RP D tc bs s h H) (hb : bs ≤ H.size) (hz : H1.size = H.size + 1) (hk : ∀ q, q < H.size → H1[q]? = H[q]?) : am_RP D tc bs s (am_skip h n) H1 := by
  obtain ⟨ws, hP, hD, hw⟩ := r.2.1
  exact ⟨by rw [hz, r.1]; rfl, ⟨ws, hP.kept (fun k q hq => hk q.1 (hP k q hq).lt), hD, hw⟩, fun b x hb' => (r.2.2 b x hb').mono (fun y c fs q => ⟨c, fs, q⟩) (fun q hq => hk q (Nat.lt_of_lt_of_le hq hb))⟩
/-- seen from another state of the same tables -/
theorem am_RP.moved {U : State} (r : am_RP D tc bs s h H) (hvm : s.vm.Alike U.vm) : am_RP D tc bs U h H := by
  refine ⟨r.1, r.2.1, fun b x hb => ?_⟩
  have k := r.2.2 b x hb
  match x, k with
  | .inl (t, n, x), k =>
    by_cases q : t < 100
    · simp only [am_ok, if_pos q] at k ⊢
      exact k
    · simp only [am_ok, if_neg q] at k ⊢
      obtain ⟨k0, k1, cell, k2, k3, k4⟩ := k
      exact ⟨k0, k1, cell, k2, State.isArrayOf_alike hvm k3, k4⟩
  | .inr (c, fs), k =>
    by_cases q : c < 100
    · simp only [am_ok, if_pos q] at k ⊢
      exact k
    · simp only [am_ok, if_neg q] at k ⊢
      obtain ⟨k1, cell, k2, k3, k4, k5, k6⟩ := k
      exact ⟨k1, cell, k2, k3, k4, by rw [hvm.findClass]; exact k5, k6⟩
end
/-! ===== instructions over the heap ===== -/
section
variable {p : Program} {l : Launch} {e : Env} {R : Room} {s : State} {m : MethodId} {args : Array Value} {below : List Frame} {meth : Method} {c : Code} {Q : State → Prop} {D : va_G} {tc : Nat → ClassId} {bs sl0 : Nat} {pc nx tg : Nat} {L st : List Value} {h : am_H} {cc : ByteArray} {own : String} {a : Nat}
/-- a field by its declarer, as the class's objects hold it -/
def am_FI (D : va_G) (c : Nat) (s : State) (i : Nat) (o n d : String) : Prop := ∃ cf kf fi f, s.fieldFound? o n d = some (cf, kf, fi, f) ∧ f.isStatic = false ∧ f.slot = D.2 c i
theorem am_FI.of {c i : Nat} {C : String} {T : u_T} {N : Nat} {Ts : List Cond} (hts : ∀ w ∈ Ts, w.before args s = true) (hin : ∀ w ∈ u_ws C T N, w ∈ Ts) (hK : va_K D am_cl (am_tys tc) s) (hc : am_cl[c]? = some (C, T, N)) (hi : i < N) : am_FI D c s i (T i).1 (T i).2.1 (T i).2.2.1 := by
  obtain ⟨hS, hfc, kC, hkC, hkind⟩ := hK.1 c _ hc
  obtain ⟨cf, kf, fi, f, h1, h2⟩ := hS i hi
  exact ⟨cf, kf, fi, f, h1, (u_facts hfc hkC (u_lays hts hin hi) h1).1, h2⟩
theorem am_cc_z {c0 c : Nat} (h : am_cc c0 c = true) (hc : c < 100) : am_z c0 = c := by
  simp only [am_cc, Bool.or_eq_true] at h
  rcases h with h | h
  · rw [Nat.eq_of_beq_eq_true h]; exact if_pos hc
  · rw [Nat.eq_of_beq_eq_true h]; unfold am_z; rw [if_neg (by omega)]; omega
theorem kk_getf {c0 ci i index : Nat} {fs : List Value} {v : Value} {o n d ref : String} (hx : p.tables.exec = Jvm.exec) (hb : c.code = cc) (hK : va_K D am_cl (am_tys tc) s) (hown : s.vm.findClass own = some m.cls)
    (hF : am_FI D ci s i o n d) (hlink : (Cond.fieldLink own index ref n d).before args s = true) (hsame : ∀ x, s.fieldFound? o n d = some x → s.fieldFound? ref n d = some x) (hd : decode cc pc = .ok (.getfield index, 3))
    (ha : h.1 a = some (.inr (c0, fs))) (hcc : am_cc c0 ci = true) (hci : ci < 100) (hv : am_ix fs i = some v) (k : am_KK p l e R s m args below meth c Q D tc bs sl0 (pc + 3) L (v :: st) h) : am_KK p l e R s m args below meth c Q D tc bs sl0 pc L (.ref a :: st) h := by
  intro H ls locs cells slots r1 r2 r3 r4 r5
  obtain ⟨cell, g1, g2, g3, g4, g5⟩ := r1.obj hK ha
  obtain ⟨cf, kf, fi, f, f1, f2, f3⟩ := hF
  refine W.getf hx hb hown hlink (hsame _ f1) f2 g1 g2 (v := v) ?_ rfl rfl hd (k H ls locs cells slots r1 r2 r3 r4 r5)
  rw [f3, ← am_cc_z hcc hci]
  exact g5 i v hv
theorem kk_getfN {c0 ci i index : Nat} {fs : List Value} {v : Value} {o n d host : String} (hx : p.tables.exec = Jvm.exec) (hb : c.code = cc) (hK : va_K D am_cl (am_tys tc) s) (hown : s.vm.findClass own = some m.cls)
    (hF : am_FI D ci s i o n d) (hlink : (Cond.fieldLinkNest own index o n d host).before args s = true) (hd : decode cc pc = .ok (.getfield index, 3))
    (ha : h.1 a = some (.inr (c0, fs))) (hcc : am_cc c0 ci = true) (hci : ci < 100) (hv : am_ix fs i = some v) (k : am_KK p l e R s m args below meth c Q D tc bs sl0 (pc + 3) L (v :: st) h) : am_KK p l e R s m args below meth c Q D tc bs sl0 pc L (.ref a :: st) h := by
  intro H ls locs cells slots r1 r2 r3 r4 r5
  obtain ⟨cell, g1, g2, g3, g4, g5⟩ := r1.obj hK ha
  obtain ⟨cf, kf, fi, f, f1, f2, f3⟩ := hF
  refine va_Wgetf hx hb hown hlink f1 f2 g1 g2 (v := v) ?_ rfl rfl hd (k H ls locs cells slots r1 r2 r3 r4 r5)
  rw [f3, ← am_cc_z hcc hci]
  exact g5 i v hv
theorem kk_iald {t n : Nat} {f : Nat → Int32} {i : Int32} (hx : p.tables.exec = Jvm.exec) (hb : c.code = cc) (hK : va_K D am_cl (am_tys tc) s) (hd : decode cc pc = .ok (.iaload, 1)) (ha : h.1 a = some (.inl (t, n, .inl f))) (ht : am_cc t 0 = true) (hi : ¬ (i < 0 ∨ n ≤ i.toNatClampNeg))
    (k : am_KK p l e R s m args below meth c Q D tc bs sl0 (pc + 1) L (.int (f i.toNatClampNeg) :: st) h) : am_KK p l e R s m args below meth c Q D tc bs sl0 pc L (.int i :: .ref a :: st) h := by
  intro H ls locs cells slots r1 r2 r3 r4 r5
  obtain ⟨cell, g1, g2, g3, g4, -, g6⟩ := r1.arr hK ha
  rw [am_cc_z ht (by decide)] at g2
  have hlt : i.toNatClampNeg < n := Nat.not_le.mp fun q => hi (Or.inr q)
  exact W.iald hx hb g1 g2 g3 (fun q => q.elim (fun q => hi (Or.inl q)) (fun q => by omega)) (v := .int (f i.toNatClampNeg)) (g6 _ hlt) rfl rfl hd (k H ls locs cells slots r1 r2 r3 r4 r5)
theorem kk_alen {t n : Nat} {x : (Nat → Int32) ⊕ (Nat → Int64) ⊕ (Nat → UInt32) ⊕ (Nat → UInt64) ⊕ (Nat → Option Nat)} (hx : p.tables.exec = Jvm.exec) (hb : c.code = cc) (hK : va_K D am_cl (am_tys tc) s) (hd : decode cc pc = .ok (.arraylength, 1)) (ha : h.1 a = some (.inl (t, n, x)))
    (k : am_KK p l e R s m args below meth c Q D tc bs sl0 (pc + 1) L (.int (Int32.ofNat n) :: st) h) : am_KK p l e R s m args below meth c Q D tc bs sl0 pc L (.ref a :: st) h := by
  intro H ls locs cells slots r1 r2 r3 r4 r5
  obtain ⟨cell, g1, g2, g3, g4, g5, g6⟩ := r1.arr hK ha
  exact W.alen hx hb g1 g2 g5 rfl rfl hd (k H ls locs cells slots r1 r2 r3 r4 r5)
/-- a row of the kit that writes one cell, as a step of the abstract machine -/
theorem kk_wr {e0 e' : am_C} {pc' : Nat} {st' : List Value} (ha : h.1 a = some e0) (hold : am_old e0 = false) (ho1 : ∀ o, e0 = .inr o → ∃ o', e' = .inr o') (hok : ∀ H1, am_ok D tc bs s (am_set h a e') H1 a e')
    (hr : ∀ (H : Heap) (ls : Array Slot) (locs : List Loc) (cells slots : Nat) (ws : va_W) (q0 : Nat), va_P D am_cl ws H → va_D (fun q => bs ≤ q) ws → va_S (fun q => bs ≤ q) H H locs → am_LR ls c.maxLocals L → ws[q0]? = some (a, am_e tc e0) →
      (∀ (H1 : Heap) (locs1 : List Loc), va_P D am_cl (ws.set q0 (a, am_e tc e')) H1 → va_D (fun q => bs ≤ q) (ws.set q0 (a, am_e tc e')) → va_S (fun q => bs ≤ q) H H1 locs1 → W p l e R s m args below meth c H1 locs1 cells slots Q (F0 m pc' ls st')) → W p l e R s m args below meth c H locs cells slots Q (F0 m pc ls st))
    (hbs : bs ≤ s.heap.size) (k : am_KK p l e R s m args below meth c Q D tc bs sl0 pc' L st' (am_set h a e')) : am_KK p l e R s m args below meth c Q D tc bs sl0 pc L st h := by
  intro H ls locs cells slots r1 r2 r3 r4 r5
  obtain ⟨ws, hP, hD, hw⟩ := r1.2.1
  obtain ⟨q0, hq⟩ := hw a _ ha hold
  refine hr H ls locs cells slots ws q0 hP hD ⟨Nat.le_refl _, fun _ _ _ => rfl, r3.2.2⟩ r2 hq fun H1 locs1 hP1 hD1 hS1 => am_size fun hz => ?_
  have hz1 : H1.size = H.size := Nat.le_antisymm (by rw [r1.1]; omega) hS1.1
  have ho : ∀ q, q < bs → H1[q]? = H[q]? := fun q hq => hS1.2.1 q (Nat.lt_of_lt_of_le hq (Nat.le_trans hbs r3.1)) (by omega)
  exact k H1 ls locs1 cells slots (r1.set hD hw hq ha hP1 hD1 hz1 ho ho1 (hok H1)) r2 ⟨Nat.le_trans r3.1 hS1.1, fun q h1 h2 => (hS1.2.1 q (Nat.lt_of_lt_of_le h1 r3.1) h2).trans (r3.2.1 q h1 h2), hS1.2.2⟩ r4 r5
theorem kk_iast {n : Nat} {f : Nat → Int32} {i x : Int32} (hx : p.tables.exec = Jvm.exec) (hb : c.code = cc) (hK : va_K D am_cl (am_tys tc) s) (hbs : bs ≤ s.heap.size) (hd : decode cc pc = .ok (.iastore, 1)) (ha : h.1 a = some (.inl (0, n, .inl f))) (hi : ¬ (i < 0 ∨ n ≤ i.toNatClampNeg))
    (k : am_KK p l e R s m args below meth c Q D tc bs sl0 (pc + 1) L st (am_set h a (.inl (0, n, .inl (upd f i.toNatClampNeg x))))) : am_KK p l e R s m args below meth c Q D tc bs sl0 pc L (.int x :: .int i :: .ref a :: st) h := by
  refine kk_wr (e' := .inl (0, n, .inl (upd f i.toNatClampNeg x))) ha rfl (fun o q => nomatch q) (fun H1 => ?_) (fun H ls locs cells slots ws q0 hP hD hS hL hq kk => va_iast hx hb hK hP hD hS q0 0 hq rfl hi hd kk) hbs k
  simp only [am_ok, if_pos (show (0 : Nat) < 100 by decide)]
  exact ⟨by decide, fun j _ => rfl, fun q => absurd q (by decide)⟩
theorem am_fit_upd {t n : Nat} {f : Nat → Int32} {j0 : Nat} {x : Int32} (hf : ∀ j, j < n → fits (am_ty t) (.int (f j)) = true) (hx : fits (am_ty t) (.int x) = true) : ∀ j, j < n → fits (am_ty t) (am_av (.inl (upd f j0 x)) j) = true := by
  intro j hj
  show fits _ (.int (upd f j0 x j)) = true
  unfold upd
  by_cases q : j = j0
  · rw [if_pos q]; exact hx
  · rw [if_neg q]; exact hf j hj
theorem am_nar_z (x : Int32) : fits .boolean (.int (vp_nar .boolean x)) = true := by
  show fits .boolean (.int (x &&& 1)) = true
  have h : (x &&& 1) = 0 ∨ (x &&& 1) = 1 := by
    have e : x &&& 1 = nI (x.toBitVec.toNat % 2 ^ 1) := pk_and x 1 rfl
    rw [e]
    rcases Nat.mod_two_eq_zero_or_one x.toBitVec.toNat with q | q
    · left; rw [Nat.pow_one, q]; rfl
    · right; rw [Nat.pow_one, q]; rfl
  rcases h with h | h <;> rw [h] <;> decide
theorem am_nar_b (x : Int32) : fits .byte (.int (vp_nar .byte x)) = true := by
  show fits .byte (.int x.toInt8.toInt32) = true
  exact pk_fb x
theorem am_fitsOf (r : ∀ (H : Heap), am_RP D tc bs s h H → True) : True := trivial
theorem kk_zast {n : Nat} {f : Nat → Int32} {i x : Int32} (hx : p.tables.exec = Jvm.exec) (hb : c.code = cc) (hK : va_K D am_cl (am_tys tc) s) (hbs : bs ≤ s.heap.size) (hd : decode cc pc = .ok (.bastore, 1)) (ha : h.1 a = some (.inl (1, n, .inl f))) (hf : ∀ j, j < n → fits (am_ty 1) (.int (f j)) = true) (hi : ¬ (i < 0 ∨ n ≤ i.toNatClampNeg))
    (k : am_KK p l e R s m args below meth c Q D tc bs sl0 (pc + 1) L st (am_set h a (.inl (1, n, .inl (upd f i.toNatClampNeg (vp_nar .boolean x)))))) : am_KK p l e R s m args below meth c Q D tc bs sl0 pc L (.int x :: .int i :: .ref a :: st) h := by
  refine kk_wr (e' := .inl (1, n, .inl (upd f i.toNatClampNeg (vp_nar .boolean x)))) ha rfl (fun o q => nomatch q) (fun H1 => ?_) (fun H ls locs cells slots ws q0 hP hD hS hL hq kk => va_zast hx hb hK hP hD hS q0 1 hq rfl hi hd kk) hbs k
  simp only [am_ok, if_pos (show (1 : Nat) < 100 by decide)]
  exact ⟨by decide, am_fit_upd hf (am_nar_z x), fun q => absurd q (by decide)⟩
theorem kk_bast {n : Nat} {f : Nat → Int32} {i x : Int32} (hx : p.tables.exec = Jvm.exec) (hb : c.code = cc) (hK : va_K D am_cl (am_tys tc) s) (hbs : bs ≤ s.heap.size) (hd : decode cc pc = .ok (.bastore, 1)) (ha : h.1 a = some (.inl (2, n, .inl f))) (hf : ∀ j, j < n → fits (am_ty 2) (.int (f j)) = true) (hi : ¬ (i < 0 ∨ n ≤ i.toNatClampNeg))
    (k : am_KK p l e R s m args below meth c Q D tc bs sl0 (pc + 1) L st (am_set h a (.inl (2, n, .inl (upd f i.toNatClampNeg (vp_nar .byte x)))))) : am_KK p l e R s m args below meth c Q D tc bs sl0 pc L (.int x :: .int i :: .ref a :: st) h := by
  refine kk_wr (e' := .inl (2, n, .inl (upd f i.toNatClampNeg (vp_nar .byte x)))) ha rfl (fun o q => nomatch q) (fun H1 => ?_) (fun H ls locs cells slots ws q0 hP hD hS hL hq kk => va_bast hx hb hK hP hD hS q0 2 hq rfl hi hd kk) hbs k
  simp only [am_ok, if_pos (show (2 : Nat) < 100 by decide)]
  exact ⟨by decide, am_fit_upd hf (am_nar_b x), fun q => absurd q (by decide)⟩
theorem kk_last {n : Nat} {f : Nat → Int64} {i : Int32} {x : Int64} (hx : p.tables.exec = Jvm.exec) (hb : c.code = cc) (hK : va_K D am_cl (am_tys tc) s) (hbs : bs ≤ s.heap.size) (hd : decode cc pc = .ok (.lastore, 1)) (ha : h.1 a = some (.inl (3, n, .inr (.inl f)))) (hi : ¬ (i < 0 ∨ n ≤ i.toNatClampNeg))
    (k : am_KK p l e R s m args below meth c Q D tc bs sl0 (pc + 1) L st (am_set h a (.inl (3, n, .inr (.inl (vp_updL f i.toNatClampNeg x)))))) : am_KK p l e R s m args below meth c Q D tc bs sl0 pc L (.long x :: .int i :: .ref a :: st) h := by
  refine kk_wr (e' := .inl (3, n, .inr (.inl (vp_updL f i.toNatClampNeg x)))) ha rfl (fun o q => nomatch q) (fun H1 => ?_) (fun H ls locs cells slots ws q0 hP hD hS hL hq kk => va_last hx hb hK hP hD hS q0 3 hq rfl hi hd kk) hbs k
  simp only [am_ok, if_pos (show (3 : Nat) < 100 by decide)]
  exact ⟨by decide, fun j _ => rfl, fun q => absurd q (by decide)⟩
/-- a field that isn't final -/
theorem kk_put {ci i index : Nat} {fs : List Value} {v : Value} {C ref : String} {T : u_T} {N : Nat} {Ts : List Cond} {ty0 : Nat → FieldType} {ty : FieldType} (hx : p.tables.exec = Jvm.exec) (hb : c.code = cc) (hK : va_K D am_cl (am_tys tc) s) (hown : s.vm.findClass own = some m.cls) (hbs : bs ≤ s.heap.size)
    (hts : ∀ w ∈ Ts, w.before args s = true) (hin : ∀ w ∈ u_ws C T N, w ∈ Ts) (hty : ∀ k, k < N → parseFieldDescriptor (T k).2.2.1 = some (ty0 k)) (hnm : ∀ a, a < N → ∀ b, b < N → a ≠ b → (T a).2.1 ≠ (T b).2.1) (hc : am_cl[ci]? = some (C, T, N)) (hi : i < N) (hci : ci < 18)
    (hlink : (Cond.fieldLink own index ref (T i).2.1 (T i).2.2.1).before args s = true) (hsame : ∀ x, s.fieldFound? (T i).1 (T i).2.1 (T i).2.2.1 = some x → s.fieldFound? ref (T i).2.1 (T i).2.2.1 = some x) (hfin : (T i).2.2.2 = false) (hty1 : parseFieldDescriptor (T i).2.2.1 = some ty) (hn : narrow ty v = v) (hfit : fits ty v = true)
    (hd : decode cc pc = .ok (.putfield index, 3)) (ha : h.1 a = some (.inr (ci, fs))) (hl : i < fs.length)
    (k : am_KK p l e R s m args below meth c Q D tc bs sl0 (pc + 3) L st (am_set h a (.inr (ci, am_st fs i v)))) : am_KK p l e R s m args below meth c Q D tc bs sl0 pc L (v :: .ref a :: st) h := by
  rw [am_st_set] at k
  have hq100 : ci < 100 := by omega
  intro H ls locs cells slots r1 r2 r3 r4 r5
  have hlen := r1.2.2 a _ ha
  simp only [am_ok, if_pos hq100] at hlen
  refine kk_wr (e' := .inr (ci, fs.set i v)) ha (am_blef hq100) (fun o q => ⟨_, rfl⟩) (fun H1 => ?_) (fun H ls locs cells slots ws q0 hP hD hS hL hq kk => va_put hx hb hts hin ty0 hty hnm hown hK hP hD hS q0 hq hc i hi hlink hsame hfin hty1 hn hfit hl hd kk) hbs k H ls locs cells slots r1 r2 r3 r4 r5
  simp only [am_ok, if_pos hq100]
  exact ⟨hci, fun q hq => by rw [List.length_set]; exact hlen.2 q hq⟩
/-- .. of a nest mate -/
theorem kk_putN {ci i index : Nat} {fs : List Value} {v : Value} {C ref host : String} {T : u_T} {N : Nat} {Ts : List Cond} {ty0 : Nat → FieldType} {ty : FieldType} (hx : p.tables.exec = Jvm.exec) (hb : c.code = cc) (hK : va_K D am_cl (am_tys tc) s) (hown : s.vm.findClass own = some m.cls) (hbs : bs ≤ s.heap.size)
    (hts : ∀ w ∈ Ts, w.before args s = true) (hin : ∀ w ∈ u_ws C T N, w ∈ Ts) (hty : ∀ k, k < N → parseFieldDescriptor (T k).2.2.1 = some (ty0 k)) (hnm : ∀ a, a < N → ∀ b, b < N → a ≠ b → (T a).2.1 ≠ (T b).2.1) (hc : am_cl[ci]? = some (C, T, N)) (hi : i < N) (hci : ci < 18)
    (hlink : (Cond.fieldLinkNest own index ref (T i).2.1 (T i).2.2.1 host).before args s = true) (hsame : ∀ x, s.fieldFound? (T i).1 (T i).2.1 (T i).2.2.1 = some x → s.fieldFound? ref (T i).2.1 (T i).2.2.1 = some x) (hfin : (T i).2.2.2 = false) (hty1 : parseFieldDescriptor (T i).2.2.1 = some ty) (hn : narrow ty v = v) (hfit : fits ty v = true)
    (hd : decode cc pc = .ok (.putfield index, 3)) (ha : h.1 a = some (.inr (ci, fs))) (hl : i < fs.length)
    (k : am_KK p l e R s m args below meth c Q D tc bs sl0 (pc + 3) L st (am_set h a (.inr (ci, am_st fs i v)))) : am_KK p l e R s m args below meth c Q D tc bs sl0 pc L (v :: .ref a :: st) h := by
  rw [am_st_set] at k
  have hq100 : ci < 100 := by omega
  intro H ls locs cells slots r1 r2 r3 r4 r5
  have hlen := r1.2.2 a _ ha
  simp only [am_ok, if_pos hq100] at hlen
  refine kk_wr (e' := .inr (ci, fs.set i v)) ha (am_blef hq100) (fun o q => ⟨_, rfl⟩) (fun H1 => ?_) (fun H ls locs cells slots ws q0 hP hD hS hL hq kk => va_putN hx hb hts hin ty0 hty hnm hown hK hP hD hS q0 hq hc i hi hlink hsame hfin hty1 hn hfit hl hd kk) hbs k H ls locs cells slots r1 r2 r3 r4 r5
  simp only [am_ok, if_pos hq100]
  exact ⟨hci, fun q hq => by rw [List.length_set]; exact hlen.2 q hq⟩
/-- a final field, in the constructor -/
theorem kk_putF {ci i index : Nat} {fs : List Value} {v : Value} {C ref : String} {T : u_T} {N : Nat} {Ts : List Cond} {ty0 : Nat → FieldType} {ty : FieldType} (hx : p.tables.exec = Jvm.exec) (hb : c.code = cc) (hK : va_K D am_cl (am_tys tc) s) (hown : s.vm.findClass own = some m.cls) (hbs : bs ≤ s.heap.size)
    (hts : ∀ w ∈ Ts, w.before args s = true) (hin : ∀ w ∈ u_ws C T N, w ∈ Ts) (hty : ∀ k, k < N → parseFieldDescriptor (T k).2.2.1 = some (ty0 k)) (hnm : ∀ a, a < N → ∀ b, b < N → a ≠ b → (T a).2.1 ≠ (T b).2.1) (hc : am_cl[ci]? = some (C, T, N)) (hi : i < N) (hci : ci < 18)
    (hlink : (Cond.fieldLink own index ref (T i).2.1 (T i).2.2.1).before args s = true) (hsame : ∀ x, s.fieldFound? (T i).1 (T i).2.1 (T i).2.2.1 = some x → s.fieldFound? ref (T i).2.1 (T i).2.2.1 = some x) (hfin : (T i).2.2.2 = true) (hin2 : meth.name = "<init>") (hdecl : (T i).1 = own) (hty1 : parseFieldDescriptor (T i).2.2.1 = some ty) (hn : narrow ty v = v) (hfit : fits ty v = true)
    (hd : decode cc pc = .ok (.putfield index, 3)) (ha : h.1 a = some (.inr (ci, fs))) (hl : i < fs.length)
    (k : am_KK p l e R s m args below meth c Q D tc bs sl0 (pc + 3) L st (am_set h a (.inr (ci, am_st fs i v)))) : am_KK p l e R s m args below meth c Q D tc bs sl0 pc L (v :: .ref a :: st) h := by
  rw [am_st_set] at k
  have hq100 : ci < 100 := by omega
  intro H ls locs cells slots r1 r2 r3 r4 r5
  have hlen := r1.2.2 a _ ha
  simp only [am_ok, if_pos hq100] at hlen
  refine kk_wr (e' := .inr (ci, fs.set i v)) ha (am_blef hq100) (fun o q => ⟨_, rfl⟩) (fun H1 => ?_) (fun H ls locs cells slots ws q0 hP hD hS hL hq kk => va_putF hx hb hts hin ty0 hty hnm hown hK hP hD hS q0 hq hc i hi hlink hsame hfin hin2 hdecl hty1 hn hfit hl hd kk) hbs k H ls locs cells slots r1 r2 r3 r4 r5
  simp only [am_ok, if_pos hq100]
  exact ⟨hci, fun q hq => by rw [List.length_set]; exact hlen.2 q hq⟩
theorem kk_new {ci index N : Nat} {fs : List Value} {C : String} {T : u_T} {Ts : List Cond} {ty : Nat → FieldType} (hx : p.tables.exec = Jvm.exec) (hb : c.code = cc) (hK : va_K D am_cl (am_tys tc) s) (hown : s.vm.findClass own = some m.cls) (hbs : bs ≤ s.heap.size)
    (hts : ∀ w ∈ Ts, w.before args s = true) (hin : ∀ w ∈ u_ws C T N, w ∈ Ts) (hty : ∀ k, k < N → parseFieldDescriptor (T k).2.2.1 = some (ty k)) (hcl : (Cond.classLink own index C).before args s = true) (hinst : (Cond.instantiable C N).before args s = true) (hini : (Cond.initialized C).before args s = true) (hc : am_cl[ci]? = some (C, T, N)) (hci : ci < 18) (hfs : ∀ j, j < N → defaultValue (ty j) = vp_V fs j) (hlen : fs.length = N)
    (hd : decode cc pc = .ok (.new index, 3)) (hR : h.2.1 + 1 ≤ s.heap.size + R.cells ∧ h.2.2 + N ≤ sl0 + R.slots) (k : am_KK p l e R s m args below meth c Q D tc bs sl0 (pc + 3) L (.ref h.2.1 :: st) (am_new h (.inr (ci, fs)) N)) : am_KK p l e R s m args below meth c Q D tc bs sl0 pc L st h := by
  intro H ls locs cells slots r1 r2 r3 r4 r5
  have hKn := hK.1 ci _ hc
  have hq100 : ci < 100 := by omega
  refine W.newcK hx hb hown hcl hinst hini rfl hd (by omega) (by omega) hKn.2.1 rfl fun H1 kC hkC e1 z1 o1 => ?_
  have hle : bs ≤ H.size := Nat.le_trans hbs r3.1
  have hsz : H.size = h.2.1 := r1.1
  have r1' : am_RP D tc bs s (am_new h (.inr (ci, fs)) N) H1 := by
    refine r1.new hle ⟨_, hc, (u_born ty hts hin hKn hkC e1 hty).to hfs⟩ z1 o1 (am_blef hq100) ?_
    simp only [am_ok, if_pos hq100]
    exact ⟨hci, fun q hq => by rw [hc] at hq; cases hq; exact hlen⟩
  have k2 := k H1 ls locs (cells + 1) (slots + N) r1' r2 ⟨Nat.le_trans r3.1 (by omega), fun q h1 h2 => (o1 q (Nat.lt_of_lt_of_le h1 r3.1)).trans (r3.2.1 q h1 h2), r3.2.2⟩ (by show _ = h.2.1 + 1; omega) (by show _ = h.2.2 + N; omega)
  rw [hsz]
  exact k2
theorem kk_newi {t : Nat} {atype : ArrayType} {n : Int32} (hx : p.tables.exec = Jvm.exec) (hb : c.code = cc) (hK : va_K D am_cl (am_tys tc) s) (hbs : bs ≤ s.heap.size) (harr : (Cond.arrayClass (newarray.typeOf atype)).before args s = true) (hty : newarray.typeOf atype = am_ty t) (ht : t < 3)
    (hd : decode cc pc = .ok (.newarray atype, 2)) (hn : ¬ n < 0) (hn2 : n.toNatClampNeg ≤ 1000000) (hR : h.2.1 + 1 ≤ s.heap.size + R.cells ∧ h.2.2 + n.toNatClampNeg ≤ sl0 + R.slots)
    (k : am_KK p l e R s m args below meth c Q D tc bs sl0 (pc + 2) L (.ref h.2.1 :: st) (am_new h (.inl (t, n.toNatClampNeg, .inl (fun _ => 0))) n.toNatClampNeg)) : am_KK p l e R s m args below meth c Q D tc bs sl0 pc L (.int n :: st) h := by
  intro H ls locs cells slots r1 r2 r3 r4 r5
  have hq100 : t < 100 := by omega
  have hsz : H.size = h.2.1 := r1.1
  have hle : bs ≤ H.size := Nat.le_trans hbs r3.1
  have hdf : defaultValue (am_ty t) = .int 0 := by match t, ht with | 0, _ => rfl | 1, _ => rfl | 2, _ => rfl
  have hcb : componentBytes (am_ty t) ≤ 8 := by match t, ht with | 0, _ => decide | 1, _ => decide | 2, _ => decide
  refine va_newaK hx hb harr rfl hd rfl hn rfl (by rw [hty]; exact Nat.le_trans (Nat.mul_le_mul hn2 hcb) (by decide)) (by omega) (by omega) rfl fun H1 cA e1 z1 o1 hAr hNm => ?_
  rw [hty, hdf] at e1
  rw [hty] at hNm
  have hcA : cA = tc t := by
    have hRA := (hK.2 t _ (am_tys_at (by omega))).2
    have : s.vm.findClass ("[" ++ (am_ty t).toString) = some (tc t) := by match t, ht, hRA with | 0, _, q => exact q | 1, _, q => exact q | 2, _, q => exact q
    exact Option.some.inj (hNm.symm.trans this)
  have r1' : am_RP D tc bs s (am_new h (.inl (t, n.toNatClampNeg, .inl (fun _ => 0))) n.toNatClampNeg) H1 := by
    refine r1.new hle (by subst hcA; exact e1) z1 o1 (am_blef hq100) ?_
    simp only [am_ok, if_pos hq100]
    exact ⟨by omega, fun j _ => by match t, ht with | 0, _ => exact rfl | 1, _ => exact (show fits .boolean (.int 0) = true by decide) | 2, _ => exact (show fits .byte (.int 0) = true by decide), fun q => by omega⟩
  have k2 := k H1 ls locs (cells + 1) (slots + n.toNatClampNeg) r1' r2 ⟨Nat.le_trans r3.1 (by omega), fun q h1 h2 => (o1 q (Nat.lt_of_lt_of_le h1 r3.1)).trans (r3.2.1 q h1 h2), r3.2.2⟩ (by show _ = h.2.1 + 1; omega) (by show _ = h.2.2 + _; omega)
  rw [hsz]
  exact k2
/-- any object that is known may be put into an array of objects -/
def am_OB (s : State) : Prop := ∀ c, c < 25 → va_Nw (.castable (am_nm c) "java/lang/Object") s
theorem am_any {H : Heap} (r : am_RP D tc bs s h H) (hK : va_K D am_cl (am_tys tc) s) (hO : am_OB s) {b c : Nat} {fs : List Value} (hb : h.1 b = some (.inr (c, fs))) : va_Any "java/lang/Object" s H b := by
  have hc : am_z c < 25 := by
    have k := r.2.2 b _ hb
    by_cases q : c < 100
    · simp only [am_ok, if_pos q] at k
      rw [show am_z c = c from if_pos q]
      omega
    · simp only [am_ok, if_neg q] at k
      rw [show am_z c = c - 100 from if_neg q]
      omega
  obtain ⟨cell, g1, g2, g3, g4, g5⟩ := r.obj hK hb
  obtain ⟨kC, hkC, -⟩ := Vm.findClass_spec g4
  exact ⟨cell, g1, g3, ⟨kC, hkC⟩, fun comp hcomp => vb_asgC (hO _ hc) comp _ hcomp g4⟩
theorem kk_newl {n : Int32} (hx : p.tables.exec = Jvm.exec) (hb : c.code = cc) (hK : va_K D am_cl (am_tys tc) s) (hbs : bs ≤ s.heap.size) (harr : (Cond.arrayClass (newarray.typeOf .long)).before args s = true)
    (hd : decode cc pc = .ok (.newarray .long, 2)) (hn : ¬ n < 0) (hn2 : n.toNatClampNeg ≤ 1000000) (hR : h.2.1 + 1 ≤ s.heap.size + R.cells ∧ h.2.2 + n.toNatClampNeg ≤ sl0 + R.slots)
    (k : am_KK p l e R s m args below meth c Q D tc bs sl0 (pc + 2) L (.ref h.2.1 :: st) (am_new h (.inl (3, n.toNatClampNeg, .inr (.inl (fun _ => 0)))) n.toNatClampNeg)) : am_KK p l e R s m args below meth c Q D tc bs sl0 pc L (.int n :: st) h := by
  intro H ls locs cells slots r1 r2 r3 r4 r5
  have hsz : H.size = h.2.1 := r1.1
  have hle : bs ≤ H.size := Nat.le_trans hbs r3.1
  refine va_newaK hx hb harr rfl hd rfl hn rfl (Nat.le_trans (Nat.mul_le_mul hn2 (show componentBytes (newarray.typeOf .long) ≤ 8 by decide)) (by decide)) (by omega) (by omega) rfl fun H1 cA e1 z1 o1 hAr hNm => ?_
  have hcA : cA = tc 3 := Option.some.inj (hNm.symm.trans (hK.2 3 _ rfl).2)
  have r1' : am_RP D tc bs s (am_new h (.inl (3, n.toNatClampNeg, .inr (.inl (fun _ => 0)))) n.toNatClampNeg) H1 := by
    refine r1.new hle (by subst hcA; exact e1) z1 o1 rfl ?_
    simp only [am_ok, if_pos (show (3 : Nat) < 100 by decide)]
    exact ⟨by decide, fun j _ => rfl, fun q => absurd q (by decide)⟩
  have k2 := k H1 ls locs (cells + 1) (slots + n.toNatClampNeg) r1' r2 ⟨Nat.le_trans r3.1 (by omega), fun q h1 h2 => (o1 q (Nat.lt_of_lt_of_le h1 r3.1)).trans (r3.2.1 q h1 h2), r3.2.2⟩ (by show _ = h.2.1 + 1; omega) (by show _ = h.2.2 + _; omega)
  rw [hsz]
  exact k2
theorem kk_newr {n : Int32} {index : Nat} (hx : p.tables.exec = Jvm.exec) (hb : c.code = cc) (hK : va_K D am_cl (am_tys tc) s) (hbs : bs ≤ s.heap.size) (hown : s.vm.findClass own = some m.cls) (hclink : (Cond.classLink own index "java/lang/Object").before args s = true) (hover : va_AO "java/lang/Object" s)
    (hd : decode cc pc = .ok (.anewarray index, 3)) (hn : ¬ n < 0) (hn2 : n.toNatClampNeg ≤ 1000000) (hR : h.2.1 + 1 ≤ s.heap.size + R.cells ∧ h.2.2 + n.toNatClampNeg ≤ sl0 + R.slots)
    (k : am_KK p l e R s m args below meth c Q D tc bs sl0 (pc + 3) L (.ref h.2.1 :: st) (am_new h (.inl (4, n.toNatClampNeg, .inr (.inr (.inr (.inr (fun _ => none)))))) n.toNatClampNeg)) : am_KK p l e R s m args below meth c Q D tc bs sl0 pc L (.int n :: st) h := by
  intro H ls locs cells slots r1 r2 r3 r4 r5
  have hsz : H.size = h.2.1 := r1.1
  have hle : bs ≤ H.size := Nat.le_trans hbs r3.1
  refine W.anew hx hb hown hclink (va_AO.use hover) rfl hd rfl hn (by omega) (by omega) (by omega) fun cA kA comp f1 f2 f3 f4 => ?_
  generalize hH1 : H.push ({ cls := cA, slots := Array.replicate n.toNatClampNeg .null, vm := .none } : Cell) = H1
  have z1 : H1.size = H.size + 1 := by rw [← hH1, Array.size_push]
  have e1 : H1[H.size]? = some (arrV cA n.toNatClampNeg (fun _ => .null)) := by rw [← hH1, Array.getElem?_push_size, ← arrV_new]
  have o1 : ∀ q : Nat, q < H.size → H1[q]? = H[q]? := fun q hq => by rw [← hH1, Array.getElem?_push, if_neg (Nat.ne_of_lt hq)]
  have hcA : cA = tc 4 := by
    obtain ⟨-, -, -, -, -, q⟩ := (hK.2 4 _ rfl).2
    exact Option.some.inj (f1.symm.trans q)
  have r1' : am_RP D tc bs s (am_new h (.inl (4, n.toNatClampNeg, .inr (.inr (.inr (.inr (fun _ => none)))))) n.toNatClampNeg) H1 := by
    refine r1.new hle (by subst hcA; exact e1) z1 o1 rfl ?_
    simp only [am_ok, if_pos (show (4 : Nat) < 100 by decide)]
    exact ⟨by decide, fun j _ => rfl, fun q j y _ hy => by cases hy⟩
  have k2 := k H1 ls locs (cells + 1) (slots + n.toNatClampNeg) r1' r2 ⟨Nat.le_trans r3.1 (by omega), fun q h1 h2 => (o1 q (Nat.lt_of_lt_of_le h1 r3.1)).trans (r3.2.1 q h1 h2), r3.2.2⟩ (by show _ = h.2.1 + 1; omega) (by show _ = h.2.2 + _; omega)
  rw [hsz]
  exact k2
theorem kk_bald {t n : Nat} {f : Nat → Int32} {i : Int32} (hx : p.tables.exec = Jvm.exec) (hb : c.code = cc) (hK : va_K D am_cl (am_tys tc) s) (hd : decode cc pc = .ok (.baload, 1)) (ha : h.1 a = some (.inl (t, n, .inl f))) (ht : t = 1 ∨ am_cc t 2 = true) (hi : ¬ (i < 0 ∨ n ≤ i.toNatClampNeg))
    (k : am_KK p l e R s m args below meth c Q D tc bs sl0 (pc + 1) L (.int (f i.toNatClampNeg) :: st) h) : am_KK p l e R s m args below meth c Q D tc bs sl0 pc L (.int i :: .ref a :: st) h := by
  intro H ls locs cells slots r1 r2 r3 r4 r5
  obtain ⟨cell, g1, g2, g3, g4, -, g6⟩ := r1.arr hK ha
  have hlt : i.toNatClampNeg < n := Nat.not_le.mp fun q => hi (Or.inr q)
  rcases ht with rfl | ht
  · exact W.zald hx hb g1 g2 g3 (fun q => q.elim (fun q => hi (Or.inl q)) (fun q => by omega)) (v := .int (f i.toNatClampNeg)) (g6 _ hlt) rfl rfl hd (k H ls locs cells slots r1 r2 r3 r4 r5)
  · rw [am_cc_z ht (by decide)] at g2
    exact W.bald hx hb g1 g2 g3 (fun q => q.elim (fun q => hi (Or.inl q)) (fun q => by omega)) (v := .int (f i.toNatClampNeg)) (g6 _ hlt) rfl rfl hd (k H ls locs cells slots r1 r2 r3 r4 r5)
theorem kk_lald {n : Nat} {f : Nat → Int64} {i : Int32} (hx : p.tables.exec = Jvm.exec) (hb : c.code = cc) (hK : va_K D am_cl (am_tys tc) s) (hd : decode cc pc = .ok (.laload, 1)) (ha : h.1 a = some (.inl (3, n, .inr (.inl f)))) (hi : ¬ (i < 0 ∨ n ≤ i.toNatClampNeg))
    (k : am_KK p l e R s m args below meth c Q D tc bs sl0 (pc + 1) L (.long (f i.toNatClampNeg) :: st) h) : am_KK p l e R s m args below meth c Q D tc bs sl0 pc L (.int i :: .ref a :: st) h := by
  intro H ls locs cells slots r1 r2 r3 r4 r5
  obtain ⟨cell, g1, g2, g3, g4, -, g6⟩ := r1.arr hK ha
  have hlt : i.toNatClampNeg < n := Nat.not_le.mp fun q => hi (Or.inr q)
  exact W.lald hx hb g1 g2 g3 (fun q => q.elim (fun q => hi (Or.inl q)) (fun q => by omega)) (v := .long (f i.toNatClampNeg)) (g6 _ hlt) rfl rfl hd (k H ls locs cells slots r1 r2 r3 r4 r5)
theorem am_tz_ref {t : Nat} (h : 3 < am_z t) : (am_ty (am_z t)).isReference = true := by
  unfold am_ty
  split <;> first | rfl | omega
theorem am_dummy : True := trivial
theorem kk_aald {t n : Nat} {f : Nat → Option Nat} {i : Int32} (hx : p.tables.exec = Jvm.exec) (hb : c.code = cc) (hK : va_K D am_cl (am_tys tc) s) (hd : decode cc pc = .ok (.aaload, 1)) (ha : h.1 a = some (.inl (t, n, .inr (.inr (.inr (.inr f)))))) (ht : 3 < am_z t) (hi : ¬ (i < 0 ∨ n ≤ i.toNatClampNeg))
    (k : am_KK p l e R s m args below meth c Q D tc bs sl0 (pc + 1) L (va_rf (f i.toNatClampNeg) :: st) h) : am_KK p l e R s m args below meth c Q D tc bs sl0 pc L (.int i :: .ref a :: st) h := by
  intro H ls locs cells slots r1 r2 r3 r4 r5
  obtain ⟨cell, g1, g2, g3, g4, -, g6⟩ := r1.arr hK ha
  have hlt : i.toNatClampNeg < n := Nat.not_le.mp fun q => hi (Or.inr q)
  exact W.aald hx hb g1 g2 (am_tz_ref ht) g3 (fun q => q.elim (fun q => hi (Or.inl q)) (fun q => by omega)) (v := va_rf (f i.toNatClampNeg)) (g6 _ hlt) rfl rfl hd (k H ls locs cells slots r1 r2 r3 r4 r5)
theorem kk_aast {n b cb : Nat} {f : Nat → Option Nat} {fs : List Value} {i : Int32} (hx : p.tables.exec = Jvm.exec) (hb : c.code = cc) (hK : va_K D am_cl (am_tys tc) s) (hO : am_OB s) (hbs : bs ≤ s.heap.size) (hd : decode cc pc = .ok (.aastore, 1)) (ha : h.1 a = some (.inl (4, n, .inr (.inr (.inr (.inr f)))))) (hv : h.1 b = some (.inr (cb, fs))) (hi : ¬ (i < 0 ∨ n ≤ i.toNatClampNeg))
    (k : am_KK p l e R s m args below meth c Q D tc bs sl0 (pc + 1) L st (am_set h a (.inl (4, n, .inr (.inr (.inr (.inr (va_up f i.toNatClampNeg (some b))))))))) : am_KK p l e R s m args below meth c Q D tc bs sl0 pc L (.ref b :: .int i :: .ref a :: st) h := by
  intro H ls locs cells slots r1 r2 r3 r4 r5
  have hok := r1.2.2 a _ ha
  simp only [am_ok, if_pos (show (4 : Nat) < 100 by decide)] at hok
  have hany := am_any r1 hK hO hv
  obtain ⟨ws, hP, hD, hw⟩ := r1.2.1
  obtain ⟨q0, hq⟩ := hw a _ ha rfl
  have hab : b ≠ a := fun q => by rw [q, ha] at hv; cases hv
  refine va_astqM hx hb hK hP hD (⟨Nat.le_refl _, fun _ _ _ => rfl, r3.2.2⟩ : va_S (fun q => bs ≤ q) H H locs) q0 4 hq rfl hany hi hd fun H1 locs1 hP1 hD1 hS1 => am_size fun hz => ?_
  have hz1 : H1.size = H.size := Nat.le_antisymm (by rw [r1.1]; omega) hS1.1
  have ho : ∀ q, q < bs → H1[q]? = H[q]? := fun q hq => hS1.2.1 q (Nat.lt_of_lt_of_le hq (Nat.le_trans hbs r3.1)) (by omega)
  refine k H1 ls locs1 cells slots (r1.set hD hw hq ha hP1 hD1 hz1 ho (fun o q => nomatch q) ?_) r2 ⟨Nat.le_trans r3.1 hS1.1, fun q h1 h2 => (hS1.2.1 q (Nat.lt_of_lt_of_le h1 r3.1) h2).trans (r3.2.1 q h1 h2), hS1.2.2⟩ r4 r5
  simp only [am_ok, if_pos (show (4 : Nat) < 100 by decide)]
  refine ⟨by decide, fun j hj => ?_, fun _ j y hj hy => ?_⟩
  · show fits (.object _) (va_rf (va_up f _ _ j)) = true
    cases va_up f i.toNatClampNeg (some b) j <;> rfl
  · by_cases z : j = i.toNatClampNeg
    · have : va_up f i.toNatClampNeg (some b) j = some b := if_pos z
      simp only [am_av, this] at hy
      cases hy
      exact ⟨cb, fs, by rw [am_set_nq hab]; exact hv⟩
    · have e1 : va_up f i.toNatClampNeg (some b) j = f j := if_neg z
      simp only [am_av, e1] at hy
      obtain ⟨c9, f9, q9⟩ := hok.2.2 (by trivial) j y hj hy
      exact ⟨c9, f9, by rw [am_set_nq (fun q => by rw [q, ha] at q9; cases q9)]; exact q9⟩
theorem kk_aastN {n : Nat} {f : Nat → Option Nat} {i : Int32} (hx : p.tables.exec = Jvm.exec) (hb : c.code = cc) (hK : va_K D am_cl (am_tys tc) s) (hbs : bs ≤ s.heap.size) (hd : decode cc pc = .ok (.aastore, 1)) (ha : h.1 a = some (.inl (4, n, .inr (.inr (.inr (.inr f)))))) (hi : ¬ (i < 0 ∨ n ≤ i.toNatClampNeg))
    (k : am_KK p l e R s m args below meth c Q D tc bs sl0 (pc + 1) L st (am_set h a (.inl (4, n, .inr (.inr (.inr (.inr (va_up f i.toNatClampNeg none)))))))) : am_KK p l e R s m args below meth c Q D tc bs sl0 pc L (.null :: .int i :: .ref a :: st) h := by
  intro H ls locs cells slots r1 r2 r3 r4 r5
  have hok := r1.2.2 a _ ha
  simp only [am_ok, if_pos (show (4 : Nat) < 100 by decide)] at hok
  refine kk_wr (e' := .inl (4, n, .inr (.inr (.inr (.inr (va_up f i.toNatClampNeg none)))))) ha rfl (fun o q => nomatch q) (fun H1 => ?_) (fun H ls locs cells slots ws q0 hP hD hS hL hq kk => va_astqN hx hb hK hP hD hS q0 4 hq rfl hi hd kk) hbs k H ls locs cells slots r1 r2 r3 r4 r5
  simp only [am_ok, if_pos (show (4 : Nat) < 100 by decide)]
  refine ⟨by decide, fun j hj => ?_, fun _ j y hj hy => ?_⟩
  · show fits (.object _) (va_rf (va_up f _ _ j)) = true
    cases va_up f i.toNatClampNeg none j <;> rfl
  · by_cases z : j = i.toNatClampNeg
    · have : va_up f i.toNatClampNeg none j = none := if_pos z
      simp only [am_av, this] at hy
      cases hy
    · have e1 : va_up f i.toNatClampNeg none j = f j := if_neg z
      simp only [am_av, e1] at hy
      obtain ⟨c9, f9, q9⟩ := hok.2.2 (by trivial) j y hj hy
      exact ⟨c9, f9, by rw [am_set_nq (fun q => by rw [q, ha] at q9; cases q9)]; exact q9⟩
/-- the cell of an array that may be cloned -/
theorem am_RP.cln {H : Heap} (r : am_RP D tc bs s h H) {t0 t n : Nat} {x : (Nat → Int32) ⊕ (Nat → Int64) ⊕ (Nat → UInt32) ⊕ (Nat → UInt64) ⊕ (Nat → Option Nat)} (ha : h.1 a = some (.inl (t0, n, x))) (ht : am_cq t0 t = true) :
    t < 7 ∧ (∃ cell : Cell, H[a]? = some cell ∧ cell.cls = tc t ∧ (cell.vm.isStatics = false ∧ cell.vm ≠ .unknown) ∧ cell.slots = (vp_cell (tc t) (n, x)).slots) ∧ (t < 4 → ∀ j, j < n → fits (am_ty t) (am_av x j) = true) ∧ (4 ≤ t → ∀ j y, j < n → am_av x j = .ref y → t0 = 4 → ∃ c fs, h.1 y = some (.inr (c, fs))) ∧ (t0 = t ∨ (4 ≤ t ∧ t0 = t + 100)) := by
  simp only [am_cq, Bool.and_eq_true, Bool.or_eq_true] at ht
  obtain ⟨h7, ht⟩ := ht
  have h7 : t < 7 := Nat.le_of_ble_eq_true h7
  have k := r.2.2 a _ ha
  rcases ht with e | ⟨e4, e⟩
  · have e := Nat.eq_of_beq_eq_true e
    subst e
    have q : t0 < 100 := by omega
    simp only [am_ok, if_pos q] at k
    obtain ⟨ws, hP, -, hw⟩ := r.2.1
    obtain ⟨k1, hw⟩ := hw a _ ha (am_blef q)
    have hc : H[a]? = some (vp_cell (tc t0) (n, x)) := hP k1 _ hw
    exact ⟨h7, ⟨_, hc, by obtain f | f | f | f | f := x <;> rfl, by obtain f | f | f | f | f := x <;> exact ⟨rfl, fun z => by cases z⟩, rfl⟩, fun _ => k.2.1, fun _ j y hj hy e => k.2.2 e j y hj hy, Or.inl rfl⟩
  · have e := Nat.eq_of_beq_eq_true e
    have e4 : 4 ≤ t := Nat.le_of_ble_eq_true e4
    subst e
    have q : ¬ t + 100 < 100 := by omega
    simp only [am_ok, if_neg q, Nat.add_sub_cancel] at k
    obtain ⟨-, -, cell, g1, -, g3, -, -, g6, g7⟩ := k
    obtain ⟨g8, g9, g10, -⟩ := g7 (by omega)
    refine ⟨h7, ⟨cell, g1, g8, ⟨g9, g3⟩, ?_⟩, fun z => by omega, fun _ j y _ _ z => by omega, Or.inr ⟨e4, rfl⟩⟩
    have hsz : (vp_cell (tc t) (n, x)).slots.size = n := by obtain f | f | f | f | f := x <;> exact arrV_size _ _ _
    apply Array.ext
    · rw [g10, hsz]
    · intro i h1 h2
      have hi : i < n := by omega
      have e1 := g6 i hi
      have e2 : (vp_cell (tc t) (n, x)).slots[i]? = some (am_av x i) := by obtain f | f | f | f | f := x <;> exact arrV_read _ _ hi
      rw [Array.getElem?_eq_getElem h1] at e1
      rw [Array.getElem?_eq_getElem h2] at e2
      exact Option.some.inj (e1.trans e2.symm)
theorem kk_clone {t0 t n index : Nat} {ad : String} {x : (Nat → Int32) ⊕ (Nat → Int64) ⊕ (Nat → UInt32) ⊕ (Nat → UInt64) ⊕ (Nat → Option Nat)} (hx : p.tables.exec = Jvm.exec) (hb : c.code = cc) (hK : va_K D am_cl (am_tys tc) s) (hbs : bs ≤ s.heap.size) (hown : s.vm.findClass own = some m.cls)
    (hlink : (Cond.methodLink own index ⟨ad, "clone", "()Ljava/lang/Object;"⟩).before args s = true) (hsame : (Cond.sameMethod ad "java/lang/Object" "clone" "()Ljava/lang/Object;").before args s = true)
    (hnat : (Cond.native ⟨"java/lang/Object", "clone", "()Ljava/lang/Object;"⟩).before args s = true) (hinst : (Cond.instanceMethod ⟨"java/lang/Object", "clone", "()Ljava/lang/Object;"⟩).before args s = true)
    (hsel : (Cond.selects ad ⟨ad, "clone", "()Ljava/lang/Object;"⟩ ⟨"java/lang/Object", "clone", "()Ljava/lang/Object;"⟩).before args s = true) (hcl : va_Nw (.castable ad "java/lang/Cloneable") s) (hnm : s.vm.findClass ad = some (tc t))
    (hfr : 1 ≤ R.frames) (hlo : 30 ≤ R.locals) (hw : am_wd st ≤ 8) (hR : h.2.1 + 1 ≤ s.heap.size + R.cells ∧ h.2.2 + n ≤ sl0 + R.slots) (hd : decode cc pc = .ok (.invokevirtual index, 3)) (ha : h.1 a = some (.inl (t0, n, x))) (ht : am_cq t0 t = true)
    (hel : t = 4 → t0 = 4) (k : am_KK p l e R s m args below meth c Q D tc bs sl0 (pc + 3) L (.ref h.2.1 :: st) (am_new h (.inl (t, n, x)) n)) : am_KK p l e R s m args below meth c Q D tc bs sl0 pc L (.ref a :: st) h := by
  intro H ls locs cells slots r1 r2 r3 r4 r5
  have hsz : H.size = h.2.1 := r1.1
  have hle : bs ≤ H.size := Nat.le_trans hbs r3.1
  obtain ⟨h7, ⟨cell, g1, g2, g3, g4⟩, gf, ge, gt⟩ := r1.cln ha ht
  have hq100 : t < 100 := by omega
  have hcsz : cell.slots.size = n := by rw [g4]; obtain f | f | f | f | f := x <;> exact arrV_size _ _ _
  have hfits : ∀ j, j < n → fits (am_ty t) (am_av x j) = true := by
    intro j hj
    by_cases z : t < 4
    · exact gf z j hj
    · by_cases z2 : t0 = t
      · have kk := r1.2.2 a _ ha
        subst z2
        simp only [am_ok, if_pos hq100] at kk
        exact kk.2.1 j hj
      · have k0 := r1.2.2 a _ ha
        have t0e : t0 = t + 100 := by rcases gt with q | q <;> omega
        subst t0e
        simp only [am_ok, if_neg (show ¬ t + 100 < 100 by omega)] at k0
        obtain ⟨-, -, cell9, -, -, -, -, -, -, k9⟩ := k0
        obtain ⟨-, -, -, f, rfl⟩ := k9 (by omega)
        have e5 : ∃ nm, am_ty t = .object nm := by unfold am_ty; split <;> first | omega | exact ⟨_, rfl⟩
        obtain ⟨nm, e5⟩ := e5
        rw [e5]
        show fits (.object nm) (va_rf (f j)) = true
        cases f j <;> rfl
  have hcellE : ({ cls := cell.cls, slots := cell.slots } : Cell) = vp_cell (tc t) (n, x) := by
    rw [g2, g4]
    obtain f | f | f | f | f := x <;> rfl
  obtain ⟨c0, t0', f1, f2, f3⟩ := Cond.castable_spec (va_Nw.use (A := args) rfl hcl)
  cases hnm.symm.trans f1
  intro T hT X
  have hcellT : T.heap[a]? = some cell := by rw [hT]; exact g1
  have hArr := (hK.2 t _ (am_tys_at h7)).1
  obtain ⟨-, kA, hkA, comp, hkind⟩ := State.isArrayOf_alike X.warmed.alike (hArr 0 (fun _ => .null))
  obtain ⟨-, kS, hkS, compS, hkindS⟩ := hArr 0 (fun _ => .null)
  have hst8 : (st.map fun v => v.category).sum ≤ 8 := by
    have : ∀ st : List Value, (st.map fun v => v.category).sum = am_wd st := by
      intro st
      induction st with
      | nil => rfl
      | cons v r ih => simp only [List.map_cons, List.sum_cons, am_wd, ih]
    rw [this]; exact hw
  obtain ⟨vm', X', stp⟩ := X.cloneArray hx hown hlink hsame hnat hinst hsel (a := a) (cell := cell) hcellT (fun k h => by have := g3.1; rw [h] at this; cases this) g3.2 (by rw [g2]; exact hnm) f2 (by rw [g2]; exact f3)
    (fun i v hv => by
      rw [g2]
      have hk' : T.vm.classes[tc t]? = some kA := hkA
      have hv2 : fits (am_ty t) v = true := by
        rw [g4] at hv
        have hi : i < n := by have := (Array.getElem?_eq_some_iff.mp hv).1; rw [← g4, hcsz] at this; exact this
        have e2 : (vp_cell (tc t) (n, x)).slots[i]? = some (am_av x i) := by obtain f | f | f | f | f := x <;> exact arrV_read _ _ hi
        rw [e2] at hv
        cases hv
        exact hfits i hi
      simpa [State.fitsSlot, State.slotType?, hk', hkind] using hv2)
    (g := F0 m pc ls (.ref a :: st)) rfl (by rw [r2.size]) rfl (by rw [hb]; exact hd) hfr (by show 2 * 0 + _ + 14 ≤ _; omega) (by omega) (by rw [hcsz]; omega) (hloader := by rw [g2]; exact Vm.clonesLoader_of_array hkS hkindS)
  rw [hcellE, hcsz] at X'
  generalize hH1 : H.push (vp_cell (tc t) (n, x)) = H1
  have z1 : H1.size = H.size + 1 := by rw [← hH1, Array.size_push]
  have e1 : H1[H.size]? = some (vp_cell (tc t) (n, x)) := by rw [← hH1, Array.getElem?_push_size]
  have o1 : ∀ q : Nat, q < H.size → H1[q]? = H[q]? := fun q hq => by rw [← hH1, Array.getElem?_push, if_neg (Nat.ne_of_lt hq)]
  have r1' : am_RP D tc bs s (am_new h (.inl (t, n, x)) n) H1 := by
    refine r1.new hle e1 z1 o1 (am_blef hq100) ?_
    simp only [am_ok, if_pos hq100]
    refine ⟨h7, hfits, fun h4 j y hj hy => ?_⟩
    obtain ⟨c9, f9, q9⟩ := ge (by omega) j y hj hy (hel h4)
    exact ⟨c9, f9, (if_neg (Nat.ne_of_lt (r1.lt q9))).trans q9⟩
  obtain ⟨t9, b1, b2⟩ := k H1 ls locs (cells + 1) (slots + n) r1' r2 ⟨Nat.le_trans r3.1 (by omega), fun q h1 h2 => (o1 q (Nat.lt_of_lt_of_le h1 r3.1)).trans (r3.2.1 q h1 h2), r3.2.2⟩ (by show _ = h.2.1 + 1; omega) (by show _ = h.2.2 + _; omega) ((T.setVm vm').pushCell (vp_cell (tc t) (n, x))) (by rw [← hH1, ← hT]; rfl) X'
  refine ⟨t9, stp t9 ?_, b2⟩
  rw [hcellE, hT, hsz]
  exact b1
end
