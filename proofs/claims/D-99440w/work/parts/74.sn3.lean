/-! SOUND, the fifth part: am_SN of new cells, clone, copy, casts, switches; printed by gen/sn3.py -/
set_option maxRecDepth 100000
section
variable {p : Program} {l : Launch} {e : Env} {R : Room} {s : State} {m : MethodId} {args : Array Value} {below : List Frame} {meth : Method} {c : Code} {Q : State → Prop} {D : va_G} {tc : Nat → ClassId} {bs sl0 : Nat} {pc nx tg : Nat} {L st : List Value} {h : am_H} {cc : ByteArray} {own : String} {a a0 : Nat}
theorem am_cat8 (st : List Value) : (st.map fun v => v.category).sum = am_wd st := by
  induction st with
  | nil => rfl
  | cons v r ih => simp only [List.map_cons, List.sum_cons, am_wd, ih]
theorem kk_copyi {t n0 n1 index : Nat} {f g : Nat → Int32} {sp dp n : Int32} (hx : p.tables.exec = Jvm.exec) (hb : c.code = cc) (hK : va_K D am_cl (am_tys tc) s) (hown : s.vm.findClass own = some m.cls) (hbs : bs ≤ s.heap.size)
    (hlink : (Cond.methodLink own index arraycopyName).before args s = true) (hnat : (Cond.native arraycopyName).before args s = true) (hstat : (Cond.static arraycopyName).before args s = true) (hini : (Cond.initialized "java/lang/System").before args s = true)
    (hf : 1 ≤ R.frames) (hl : 100 ≤ R.locals) (hw : am_wd st ≤ 8) (hd : decode cc pc = .ok (.invokestatic index, 3)) (ha : h.1 a0 = some (.inl (t, n0, .inl f))) (hb1 : h.1 a = some (.inl (t, n1, .inl g))) (ht : t < 3)
    (h1 : ¬ sp < 0) (h2 : ¬ dp < 0) (h3 : ¬ n < 0) (h4 : sp.toNatClampNeg + n.toNatClampNeg ≤ n0) (h5 : dp.toNatClampNeg + n.toNatClampNeg ≤ n1)
    (k : am_KK p l e R s m args below meth c Q D tc bs sl0 (pc + 3) L st (am_set h a (.inl (t, n1, .inl (va_cpy f g sp.toNatClampNeg dp.toNatClampNeg n.toNatClampNeg))))) : am_KK p l e R s m args below meth c Q D tc bs sl0 pc L (.int n :: .int dp :: .ref a :: .int sp :: .ref a0 :: st) h := by
  intro H ls locs cells slots r1 r2 r3 r4 r5
  have q100 : t < 100 := by omega
  have o0 := r1.2.2 a0 _ ha
  have o1 := r1.2.2 a _ hb1
  simp only [am_ok, if_pos q100] at o0 o1
  obtain ⟨ws, hP, hD, hw1⟩ := r1.2.1
  obtain ⟨k0, hk0⟩ := hw1 a0 _ ha (am_blef q100)
  obtain ⟨k1, hk1⟩ := hw1 a _ hb1 (am_blef q100)
  have hlo : (st.map fun v => v.category).sum + (nativeFrameWords "java/lang/System" "arraycopy" 5 + 11) ≤ R.locals := by
    rw [am_cat8]
    have hq : nativeFrameWords "java/lang/System" "arraycopy" 5 ≤ 40 := by decide
    omega
  refine va_copyi hx hb r2.size.symm hown hlink hnat hstat hini hK hP hD (⟨Nat.le_refl _, fun _ _ _ => rfl, r3.2.2⟩ : va_S (fun q => bs ≤ q) H H locs) k0 k1 t t hk0 hk1 (am_tys_at (by omega)) (am_tys_at (by omega)) (by match t, ht with | 0, _ => rfl | 1, _ => rfl | 2, _ => rfl) h1 h2 h3 h4 h5 (fun i hi => o0.2.1 _ (by omega)) hf hlo hd fun H1 locs1 hP1 hD1 hS1 => am_size fun hz => ?_
  have hz1 : H1.size = H.size := Nat.le_antisymm (by rw [r1.1]; omega) hS1.1
  have ho : ∀ q, q < bs → H1[q]? = H[q]? := fun q hq => hS1.2.1 q (Nat.lt_of_lt_of_le hq (Nat.le_trans hbs r3.1)) (by omega)
  refine k H1 ls locs1 cells slots (r1.set hD hw1 hk1 hb1 hP1 hD1 hz1 ho (fun o q => nomatch q) ?_) r2 ⟨Nat.le_trans r3.1 hS1.1, fun q h1 h2 => (hS1.2.1 q (Nat.lt_of_lt_of_le h1 r3.1) h2).trans (r3.2.1 q h1 h2), hS1.2.2⟩ r4 r5
  simp only [am_ok, if_pos q100]
  refine ⟨by omega, fun j hj => ?_, fun q => by omega⟩
  show fits (am_ty t) (.int (va_cpy f g _ _ _ j)) = true
  unfold va_cpy
  split
  · exact o0.2.1 _ (by omega)
  · exact o1.2.1 _ hj
theorem kk_copyr {n0 n1 index : Nat} {f g : Nat → Option Nat} {sp dp n : Int32} (hx : p.tables.exec = Jvm.exec) (hb : c.code = cc) (hK : va_K D am_cl (am_tys tc) s) (hO : am_OB s) (hown : s.vm.findClass own = some m.cls) (hbs : bs ≤ s.heap.size)
    (hlink : (Cond.methodLink own index arraycopyName).before args s = true) (hnat : (Cond.native arraycopyName).before args s = true) (hstat : (Cond.static arraycopyName).before args s = true) (hini : (Cond.initialized "java/lang/System").before args s = true)
    (hf : 1 ≤ R.frames) (hl : 100 ≤ R.locals) (hw : am_wd st ≤ 8) (hd : decode cc pc = .ok (.invokestatic index, 3)) (ha : h.1 a0 = some (.inl (4, n0, .inr (.inr (.inr (.inr f)))))) (hb1 : h.1 a = some (.inl (4, n1, .inr (.inr (.inr (.inr g))))))
    (h1 : ¬ sp < 0) (h2 : ¬ dp < 0) (h3 : ¬ n < 0) (h4 : sp.toNatClampNeg + n.toNatClampNeg ≤ n0) (h5 : dp.toNatClampNeg + n.toNatClampNeg ≤ n1)
    (k : am_KK p l e R s m args below meth c Q D tc bs sl0 (pc + 3) L st (am_set h a (.inl (4, n1, .inr (.inr (.inr (.inr (va_cpy f g sp.toNatClampNeg dp.toNatClampNeg n.toNatClampNeg)))))))) : am_KK p l e R s m args below meth c Q D tc bs sl0 pc L (.int n :: .int dp :: .ref a :: .int sp :: .ref a0 :: st) h := by
  intro H ls locs cells slots r1 r2 r3 r4 r5
  have o0 := r1.2.2 a0 _ ha
  have o1 := r1.2.2 a _ hb1
  simp only [am_ok, if_pos (show (4 : Nat) < 100 by decide)] at o0 o1
  obtain ⟨ws, hP, hD, hw1⟩ := r1.2.1
  obtain ⟨k0, hk0⟩ := hw1 a0 _ ha rfl
  obtain ⟨k1, hk1⟩ := hw1 a _ hb1 rfl
  have hlo : (st.map fun v => v.category).sum + (nativeFrameWords "java/lang/System" "arraycopy" 5 + 11) ≤ R.locals := by
    rw [am_cat8]
    have hq : nativeFrameWords "java/lang/System" "arraycopy" 5 ≤ 40 := by decide
    omega
  refine va_copyM hx hb r2.size.symm hown hlink hnat hstat hini hK hP hD (⟨Nat.le_refl _, fun _ _ _ => rfl, r3.2.2⟩ : va_S (fun q => bs ≤ q) H H locs) k0 k1 4 4 hk0 hk1 rfl rfl h1 h2 h3 h4 h5 (fun i hi y hy => ?_) hf hlo hd fun H1 locs1 hP1 hD1 hS1 => am_size fun hz => ?_
  · obtain ⟨c9, f9, q9⟩ := o0.2.2 (by trivial) (sp.toNatClampNeg + i) y (by omega) (by simp only [am_av, hy]; rfl)
    exact am_any r1 hK hO q9
  have hz1 : H1.size = H.size := Nat.le_antisymm (by rw [r1.1]; omega) hS1.1
  have ho : ∀ q, q < bs → H1[q]? = H[q]? := fun q hq => hS1.2.1 q (Nat.lt_of_lt_of_le hq (Nat.le_trans hbs r3.1)) (by omega)
  refine k H1 ls locs1 cells slots (r1.set hD hw1 hk1 hb1 hP1 hD1 hz1 ho (fun o q => nomatch q) ?_) r2 ⟨Nat.le_trans r3.1 hS1.1, fun q h1 h2 => (hS1.2.1 q (Nat.lt_of_lt_of_le h1 r3.1) h2).trans (r3.2.1 q h1 h2), hS1.2.2⟩ r4 r5
  simp only [am_ok, if_pos (show (4 : Nat) < 100 by decide)]
  refine ⟨by decide, fun j hj => ?_, fun _ j y hj hy => ?_⟩
  · show fits (.object _) (va_rf (va_cpy f g _ _ _ j)) = true
    cases va_cpy f g sp.toNatClampNeg dp.toNatClampNeg n.toNatClampNeg j <;> rfl
  · have hne : ∀ y c9 f9, h.1 y = some (.inr (c9, f9)) → ∃ c fs, (am_set h a (.inl (4, n1, .inr (.inr (.inr (.inr (va_cpy f g sp.toNatClampNeg dp.toNatClampNeg n.toNatClampNeg))))))).1 y = some (.inr (c, fs)) :=
      fun y c9 f9 q9 => ⟨c9, f9, by rw [am_set_ne (fun q => by rw [q, hb1] at q9; cases q9)]; exact q9⟩
    simp only [am_av, va_cpy] at hy
    split at hy
    · obtain ⟨c9, f9, q9⟩ := o0.2.2 (by trivial) _ y (by omega) hy
      exact hne _ _ _ q9
    · obtain ⟨c9, f9, q9⟩ := o1.2.2 (by trivial) j y hj hy
      exact hne _ _ _ q9
end
theorem am_mil {n : Int32} (h : ¬ 1000000 < n) : n.toNatClampNeg ≤ 1000000 := by
  have q := Int32.not_lt.mp h
  have q := Int32.le_iff_toInt_le.mp q
  have e : (1000000 : Int32).toInt = 1000000 := by decide
  rw [e] at q
  show n.toInt.toNat ≤ 1000000
  omega
/-- the targets of a tableswitch -/
def am_tk (pc : Nat) : Int → List Int → List (Int32 × Nat) → Bool
  | _, [], [] => true
  | lo, o :: r, (k, t) :: ks => decide (k.toInt = lo) && (decide ((pc : Int) + o = (t : Int)) && am_tk pc (lo + 1) r ks)
  | _, _, _ => false
theorem am_tk_in {pc d : Nat} {x : Int32} : ∀ {lo : Int} {os : List Int} {ks : List (Int32 × Nat)}, am_tk pc lo os ks = true → lo ≤ x.toInt → x.toInt < lo + os.length → ∃ off, os[(x.toInt - lo).toNat]? = some off ∧ (pc : Int) + off = (am_sw x d ks : Nat)
  | lo, [], [], h, h1, h2 => by
    simp at h2
    omega
  | lo, o :: r, (k, t) :: ks, h, h1, h2 => by
    simp only [am_tk, Bool.and_eq_true, decide_eq_true_eq] at h
    obtain ⟨e1, e2, e3⟩ := h
    by_cases q : x = k
    · subst q
      refine ⟨o, ?_, ?_⟩
      · rw [show (x.toInt - lo).toNat = 0 by omega]
        rfl
      · rw [e2]
        simp only [am_sw, if_true]
    · have hne : x.toInt ≠ lo := fun z => q (Int32.toInt_inj.mp (by omega))
      obtain ⟨off, f1, f2⟩ := am_tk_in (d := d) (x := x) e3 (by omega) (by simp only [List.length_cons] at h2; omega)
      refine ⟨off, ?_, ?_⟩
      · rw [show (x.toInt - lo).toNat = (x.toInt - (lo + 1)).toNat + 1 by omega]
        exact f1
      · rw [f2]
        simp only [am_sw, if_neg q]
  | lo, [], _ :: _, h, _, _ => nomatch h
  | lo, _ :: _, [], h, _, _ => nomatch h
theorem am_tk_out {pc d : Nat} {x : Int32} : ∀ {lo : Int} {os : List Int} {ks : List (Int32 × Nat)}, am_tk pc lo os ks = true → x.toInt < lo ∨ lo + os.length ≤ x.toInt → am_sw x d ks = d
  | lo, [], [], h, h1 => rfl
  | lo, o :: r, (k, t) :: ks, h, h1 => by
    simp only [am_tk, Bool.and_eq_true, decide_eq_true_eq] at h
    obtain ⟨e1, e2, e3⟩ := h
    simp only [List.length_cons] at h1
    have q : ¬ x = k := fun z => by subst z; omega
    simp only [am_sw, if_neg q]
    exact am_tk_out e3 (by omega)
  | lo, [], _ :: _, h, _ => nomatch h
  | lo, _ :: _, [], h, _ => nomatch h
def am_lk (pc : Nat) : List (Int × Int) → List (Int32 × Nat) → Bool
  | [], [] => true
  | (a, o) :: r, (k, t) :: ks => decide (k.toInt = a) && (decide ((pc : Int) + o = (t : Int)) && am_lk pc r ks)
  | _, _ => false
theorem am_lk_at {pc d : Nat} {x : Int32} {df : Int} (hdf : (pc : Int) + df = (d : Nat)) : ∀ {ps : List (Int × Int)} {ks : List (Int32 × Nat)}, am_lk pc ps ks = true → (pc : Int) + Op.lookupswitch.offset ps df x.toInt = (am_sw x d ks : Nat)
  | [], [], h => hdf
  | (a, o) :: r, (k, t) :: ks, h => by
    simp only [am_lk, Bool.and_eq_true, decide_eq_true_eq] at h
    obtain ⟨e1, e2, e3⟩ := h
    rw [Op.lookupswitch.offset_cons]
    by_cases q : x = k
    · subst q
      rw [if_pos (by first | exact e1.symm | exact e1 | (simp [e1])), e2]
      simp only [am_sw, if_true]
    · rw [if_neg (fun z => q (Int32.toInt_inj.mp (by rw [e1]; first | exact z | exact z.symm)))]
      simp only [am_sw, if_neg q]
      exact am_lk_at hdf e3
  | [], _ :: _, h => nomatch h
  | _ :: _, [], h => nomatch h
section
variable {l : Launch} {D : va_G} {tc : Nat → ClassId} {G : am_G} {bs : Nat} {own nm : String} {cc : ByteArray} {mL : Nat} {ret : Option FieldType} {hh : List (Nat × Nat × Nat × Nat × Nat)} {pc nx : Nat}
theorem sn_new {ci index N : Nat} {fs : List Value} {C : String} {T : u_T} {ty0 : Nat → FieldType} (hd : decode cc pc = .ok (.new index, 3)) (hC : am_Cf ci C T N ty0) (hl : Cond.classLink own index C ∈ lw_all) (hi : Cond.instantiable C N ∈ lw_all) (hini : Cond.initialized C ∈ lw_all) (hfs : ∀ j, j < N → defaultValue (ty0 j) = vp_V fs j) (hlen : fs.length = N) (hn : pc + 3 = nx) : am_SN l D tc G bs own nm cc mL ret hh pc (a_new ci fs nx) := by
  refine ⟨fun G L st h r hr => ?_, ?_⟩
  · (have e9 := Option.some.inj (show some _ = some r from hr); subst e9; exact mo_new)
  intro p e R s m args below meth c d sl0 O X L st h r hr po hLn
  obtain ⟨hx, hb, hmL, hrt, hlk, hown, hts, hmn, w, hst, hR, hno⟩ := X
  have hbs := w.2.2.2.2.2.2.2.2.2.2.2.2.2
  have e9 := Option.some.inj (show some _ = some r from hr); subst e9; subst hn; subst hlen
  obtain ⟨c1, c2, c3, c4, c5⟩ := hC
  exact kk_new hx hb w.1 hown hbs hts c3 c4 (hts _ hl) (hts _ hi) (hts _ hini) c1 c2 hfs rfl hd po.1 po.2
theorem sn_newi {t : Nat} {atype : ArrayType} (hd : decode cc pc = .ok (.newarray atype, 2)) (hA : Cond.arrayClass (newarray.typeOf atype) ∈ lw_all) (hty : newarray.typeOf atype = am_ty t) (ht : t < 3) (hn : pc + 2 = nx) : am_SN l D tc G bs own nm cc mL ret hh pc (a_newi t nx) := by
  refine ⟨fun G L st h r hr => ?_, ?_⟩
  · unfold a_newi am_mk at hr
    (repeat' split at hr) <;> first | contradiction | (simp only [cond_eq_ite] at hr; (repeat' split at hr) <;> first | contradiction | (have e9 := Option.some.inj (show some _ = some r from hr); subst e9; first | exact mo_refl | exact mo_set | exact mo_new | rfl)) | (have e9 := Option.some.inj (show some _ = some r from hr); subst e9; first | exact mo_refl | exact mo_set | exact mo_new | rfl)
  intro p e R s m args below meth c d sl0 O X L st h r hr po hLn
  obtain ⟨hx, hb, hmL, hrt, hlk, hown, hts, hmn, w, hst, hR, hno⟩ := X
  have hbs := w.2.2.2.2.2.2.2.2.2.2.2.2.2
  unfold a_newi am_mk at hr
  split at hr
  · rename_i n st
    split at hr
    · contradiction
    · rename_i hn9
      have e9 := Option.some.inj (show some _ = some r from hr); subst e9; subst hn
      exact kk_newi hx hb w.1 hbs (hts _ hA) hty ht hd (fun q => hn9 (Or.inl q)) (am_mil fun q => hn9 (Or.inr q)) po.1 po.2
  · contradiction
theorem sn_newl (hd : decode cc pc = .ok (.newarray .long, 2)) (hA : Cond.arrayClass (newarray.typeOf .long) ∈ lw_all) (hn : pc + 2 = nx) : am_SN l D tc G bs own nm cc mL ret hh pc (a_newl nx) := by
  refine ⟨fun G L st h r hr => ?_, ?_⟩
  · unfold a_newl am_mk at hr
    (repeat' split at hr) <;> first | contradiction | (simp only [cond_eq_ite] at hr; (repeat' split at hr) <;> first | contradiction | (have e9 := Option.some.inj (show some _ = some r from hr); subst e9; first | exact mo_refl | exact mo_set | exact mo_new | rfl)) | (have e9 := Option.some.inj (show some _ = some r from hr); subst e9; first | exact mo_refl | exact mo_set | exact mo_new | rfl)
  intro p e R s m args below meth c d sl0 O X L st h r hr po hLn
  obtain ⟨hx, hb, hmL, hrt, hlk, hown, hts, hmn, w, hst, hR, hno⟩ := X
  have hbs := w.2.2.2.2.2.2.2.2.2.2.2.2.2
  unfold a_newl am_mk at hr
  split at hr
  · rename_i n st
    split at hr
    · contradiction
    · rename_i hn9
      have e9 := Option.some.inj (show some _ = some r from hr); subst e9; subst hn
      exact kk_newl hx hb w.1 hbs (hts _ hA) hd (fun q => hn9 (Or.inl q)) (am_mil fun q => hn9 (Or.inr q)) po.1 po.2
  · contradiction
theorem sn_newr {index : Nat} (hd : decode cc pc = .ok (.anewarray index, 3)) (hl : Cond.classLink own index "java/lang/Object" ∈ lw_all) (hn : pc + 3 = nx) : am_SN l D tc G bs own nm cc mL ret hh pc (a_newr 4 nx) := by
  refine ⟨fun G L st h r hr => ?_, ?_⟩
  · unfold a_newr am_mk at hr
    (repeat' split at hr) <;> first | contradiction | (simp only [cond_eq_ite] at hr; (repeat' split at hr) <;> first | contradiction | (have e9 := Option.some.inj (show some _ = some r from hr); subst e9; first | exact mo_refl | exact mo_set | exact mo_new | rfl)) | (have e9 := Option.some.inj (show some _ = some r from hr); subst e9; first | exact mo_refl | exact mo_set | exact mo_new | rfl)
  intro p e R s m args below meth c d sl0 O X L st h r hr po hLn
  obtain ⟨hx, hb, hmL, hrt, hlk, hown, hts, hmn, w, hst, hR, hno⟩ := X
  have hbs := w.2.2.2.2.2.2.2.2.2.2.2.2.2
  unfold a_newr am_mk at hr
  split at hr
  · rename_i n st
    split at hr
    · contradiction
    · rename_i hn9
      have e9 := Option.some.inj (show some _ = some r from hr); subst e9; subst hn
      exact kk_newr hx hb w.1 hbs hown (hts _ hl) w.2.2.2.2.2.1.1 hd (fun q => hn9 (Or.inl q)) (am_mil fun q => hn9 (Or.inr q)) po.1 po.2
  · contradiction
theorem sn_oinit {index : Nat} (hd : decode cc pc = .ok (.invokespecial index, 3)) (hl : Cond.methodLink own index Lib.objectInit ∈ lw_all) (hi : Cond.instanceMethod Lib.objectInit ∈ lw_all) (hc : Cond.code Lib.objectInit ⟨#[0xb1]⟩ 1 none ∈ lw_all) (hn : pc + 3 = nx) : am_SN l D tc G bs own nm cc mL ret hh pc (a_oinit nx) := by
  refine ⟨fun G L st h r hr => ?_, ?_⟩
  · unfold a_oinit at hr
    (repeat' split at hr) <;> first | contradiction | (simp only [cond_eq_ite] at hr; (repeat' split at hr) <;> first | contradiction | (have e9 := Option.some.inj (show some _ = some r from hr); subst e9; first | exact mo_refl | exact mo_set | exact mo_new | rfl)) | (have e9 := Option.some.inj (show some _ = some r from hr); subst e9; first | exact mo_refl | exact mo_set | exact mo_new | rfl)
  intro p e R s m args below meth c d sl0 O X L st h r hr po hLn
  obtain ⟨hx, hb, hmL, hrt, hlk, hown, hts, hmn, w, hst, hR, hno⟩ := X
  have hbs := w.2.2.2.2.2.2.2.2.2.2.2.2.2
  unfold a_oinit at hr
  split at hr
  · rename_i a st
    cases h1 : Nat.ble (am_wd st) 8 with
    | false => rw [h1] at hr; contradiction
    | true =>
      rw [h1] at hr
      have e9 := Option.some.inj (show some _ = some r from hr); subst e9; subst hn
      have h8 : am_wd st ≤ 8 := Nat.le_of_ble_eq_true h1
      exact kk_go (fun H ls locs cells slots q ww => W.objInit hx hb hown (hts _ hl) (hts _ hi) (hts _ hc) (g := F0 m pc ls (.ref a :: st)) rfl q.size rfl hd (by omega) (by show 2 * 0 + _ + _ ≤ _; rw [am_cat8]; omega) ww) po.2
  · contradiction
theorem sn_cast {index ci : Nat} {C : String} (hd : decode cc pc = .ok (.checkcast index, 3)) (hl : Cond.classLink own index C ∈ lw_all) (hC : am_nm ci = C) (hci : ci < 100) (hn : pc + 3 = nx) : am_SN l D tc G bs own nm cc mL ret hh pc (a_cast [ci] nx) := by
  refine ⟨fun G L st h r hr => ?_, ?_⟩
  · unfold a_cast at hr
    (repeat' split at hr) <;> first | contradiction | (simp only [cond_eq_ite] at hr; (repeat' split at hr) <;> first | contradiction | (have e9 := Option.some.inj (show some _ = some r from hr); subst e9; first | exact mo_refl | exact mo_set | exact mo_new | rfl)) | (have e9 := Option.some.inj (show some _ = some r from hr); subst e9; first | exact mo_refl | exact mo_set | exact mo_new | rfl)
  intro p e R s m args below meth c d sl0 O X L st h r hr po hLn
  obtain ⟨hx, hb, hmL, hrt, hlk, hown, hts, hmn, w, hst, hR, hno⟩ := X
  have hbs := w.2.2.2.2.2.2.2.2.2.2.2.2.2
  unfold a_cast at hr
  split at hr
  · rename_i a st
    split at hr
    · rename_i c0 fs ha
      cases h1 : am_in c0 [ci] with
      | false => rw [h1] at hr; contradiction
      | true =>
        rw [h1] at hr
        have e9 := Option.some.inj (show some _ = some r from hr); subst e9; subst hn
        obtain ⟨d9, m9, q9⟩ := am_in_mem h1
        have e8 : d9 = ci := by simpa using m9
        subst e8
        intro H ls locs cells slots r1 r2 r3 r4 r5
        obtain ⟨cell, g1, g2, g3, g4, g5⟩ := r1.obj w.1 ha
        exact va_castE hx hb hown (hts _ hl) ⟨cell, g1, g3, by rw [← hC, ← am_cc_z q9 hci]; exact g4⟩ hd (po.2 H ls locs cells slots r1 r2 r3 r4 r5)
    · contradiction
  · contradiction
theorem sn_castY {index : Nat} {C : String} {cs : List Nat} (hd : decode cc pc = .ok (.checkcast index, 3)) (hl : Cond.classLink own index C ∈ lw_all) (hC : ∀ d ∈ cs, d < 100 ∧ Cond.castable (am_nm d) C ∈ am_nw) (hn : pc + 3 = nx) : am_SN l D tc G bs own nm cc mL ret hh pc (a_cast cs nx) := by
  refine ⟨fun G L st h r hr => ?_, ?_⟩
  · unfold a_cast at hr
    (repeat' split at hr) <;> first | contradiction | (simp only [cond_eq_ite] at hr; (repeat' split at hr) <;> first | contradiction | (have e9 := Option.some.inj (show some _ = some r from hr); subst e9; first | exact mo_refl | exact mo_set | exact mo_new | rfl)) | (have e9 := Option.some.inj (show some _ = some r from hr); subst e9; first | exact mo_refl | exact mo_set | exact mo_new | rfl)
  intro p e R s m args below meth c d sl0 O X L st h r hr po hLn
  obtain ⟨hx, hb, hmL, hrt, hlk, hown, hts, hmn, w, hst, hR, hno⟩ := X
  have hbs := w.2.2.2.2.2.2.2.2.2.2.2.2.2
  unfold a_cast at hr
  split at hr
  · rename_i a st
    split at hr
    · rename_i c0 fs ha
      cases h1 : am_in c0 cs with
      | false => rw [h1] at hr; contradiction
      | true =>
        rw [h1] at hr
        have e9 := Option.some.inj (show some _ = some r from hr); subst e9; subst hn
        obtain ⟨d9, m9, q9⟩ := am_in_mem h1
        obtain ⟨hci, hC9⟩ := hC d9 m9
        intro H ls locs cells slots r1 r2 r3 r4 r5
        obtain ⟨cell, g1, g2, g3, g4, g5⟩ := r1.obj w.1 ha
        exact va_castY hx hb hown (hts _ hl) (w.2.2.2.2.2.2.2.2.1 _ _ hC9) ⟨cell, g1, g3, by rw [← am_cc_z q9 hci]; exact g4⟩ hd (po.2 H ls locs cells slots r1 r2 r3 r4 r5)
    · contradiction
  · contradiction
theorem sn_inst {index ci : Nat} {C : String} (hd : decode cc pc = .ok (.instanceof index, 3)) (hl : Cond.classLink own index C ∈ lw_all) (hC : am_nm ci = C) (hci : ci < 100) (hn : pc + 3 = nx) : am_SN l D tc G bs own nm cc mL ret hh pc (a_inst ci nx) := by
  refine ⟨fun G L st h r hr => ?_, ?_⟩
  · unfold a_inst at hr
    (repeat' split at hr) <;> first | contradiction | (simp only [cond_eq_ite] at hr; (repeat' split at hr) <;> first | contradiction | (have e9 := Option.some.inj (show some _ = some r from hr); subst e9; first | exact mo_refl | exact mo_set | exact mo_new | rfl)) | (have e9 := Option.some.inj (show some _ = some r from hr); subst e9; first | exact mo_refl | exact mo_set | exact mo_new | rfl)
  intro p e R s m args below meth c d sl0 O X L st h r hr po hLn
  obtain ⟨hx, hb, hmL, hrt, hlk, hown, hts, hmn, w, hst, hR, hno⟩ := X
  have hbs := w.2.2.2.2.2.2.2.2.2.2.2.2.2
  unfold a_inst at hr
  split at hr
  · rename_i a st
    split at hr
    · rename_i c0 fs ha
      cases h1 : am_cc c0 ci with
      | false => rw [h1] at hr; contradiction
      | true =>
        rw [h1] at hr
        have e9 := Option.some.inj (show some _ = some r from hr); subst e9; subst hn
        intro H ls locs cells slots r1 r2 r3 r4 r5
        obtain ⟨cell, g1, g2, g3, g4, g5⟩ := r1.obj w.1 ha
        exact va_instE hx hb hown (hts _ hl) ⟨cell, g1, g3, by rw [← hC, ← am_cc_z h1 hci]; exact g4⟩ hd (po.2 H ls locs cells slots r1 r2 r3 r4 r5)
    · contradiction
  · contradiction
theorem sn_casta {index t : Nat} {ad : String} (hd : decode cc pc = .ok (.checkcast index, 3)) (hl : Cond.classLink own index ad ∈ lw_all) (hnm : ∀ s : State, va_RA s (tc t) (am_ty t) → s.vm.findClass ad = some (tc t)) (hn : pc + 3 = nx) : am_SN l D tc G bs own nm cc mL ret hh pc (a_casta t nx) := by
  refine ⟨fun G L st h r hr => ?_, ?_⟩
  · unfold a_casta at hr
    (repeat' split at hr) <;> first | contradiction | (simp only [cond_eq_ite] at hr; (repeat' split at hr) <;> first | contradiction | (have e9 := Option.some.inj (show some _ = some r from hr); subst e9; first | exact mo_refl | exact mo_set | exact mo_new | rfl)) | (have e9 := Option.some.inj (show some _ = some r from hr); subst e9; first | exact mo_refl | exact mo_set | exact mo_new | rfl)
  intro p e R s m args below meth c d sl0 O X L st h r hr po hLn
  obtain ⟨hx, hb, hmL, hrt, hlk, hown, hts, hmn, w, hst, hR, hno⟩ := X
  have hbs := w.2.2.2.2.2.2.2.2.2.2.2.2.2
  unfold a_casta at hr
  split at hr
  · rename_i a st
    split at hr
    · rename_i t0 x ha
      cases h1 : (Nat.beq t0 t && Nat.blt t 7) with
      | false => rw [h1] at hr; contradiction
      | true =>
        rw [h1] at hr
        have e9 := Option.some.inj (show some _ = some r from hr); subst e9; subst hn
        simp only [Bool.and_eq_true] at h1
        have e0 := Nat.eq_of_beq_eq_true h1.1
        subst e0
        have h7 : t0 < 7 := Nat.le_of_ble_eq_true h1.2
        intro H ls locs cells slots r1 r2 r3 r4 r5
        obtain ⟨ws, hP, hD, hw1⟩ := r1.2.1
        obtain ⟨k0, hk0⟩ := hw1 a _ ha (am_blef (by omega))
        exact va_castA hx hb hown (hts _ hl) hP k0 hk0 (hnm _ (w.1.2 t0 _ (am_tys_at h7)).2) hd (po.2 H ls locs cells slots r1 r2 r3 r4 r5)
    · contradiction
  · contradiction
theorem sn_getc {index : Nat} (hd : decode cc pc = .ok (.invokevirtual index, 3)) (hl : Cond.methodLink own index ⟨"java/lang/Object", "getClass", "()Ljava/lang/Class;"⟩ ∈ lw_all) (hse : Cond.selects "[Ljava/lang/Object;" ⟨"java/lang/Object", "getClass", "()Ljava/lang/Class;"⟩ ⟨"java/lang/Object", "getClass", "()Ljava/lang/Class;"⟩ ∈ lw_all) (hin : Cond.instanceMethod ⟨"java/lang/Object", "getClass", "()Ljava/lang/Class;"⟩ ∈ lw_all) (hna : Cond.native ⟨"java/lang/Object", "getClass", "()Ljava/lang/Class;"⟩ ∈ lw_all) (hn : pc + 3 = nx) : am_SN l D tc G bs own nm cc mL ret hh pc (a_getc am_gm nx) := by
  refine ⟨fun G L st h r hr => ?_, ?_⟩
  · unfold a_getc at hr
    (repeat' split at hr) <;> first | contradiction | (simp only [cond_eq_ite] at hr; (repeat' split at hr) <;> first | contradiction | (have e9 := Option.some.inj (show some _ = some r from hr); subst e9; first | exact mo_refl | exact mo_set | exact mo_new | rfl)) | (have e9 := Option.some.inj (show some _ = some r from hr); subst e9; first | exact mo_refl | exact mo_set | exact mo_new | rfl)
  intro p e R s m args below meth c d sl0 O X L st h r hr po hLn
  obtain ⟨hx, hb, hmL, hrt, hlk, hown, hts, hmn, w, hst, hR, hno⟩ := X
  have hbs := w.2.2.2.2.2.2.2.2.2.2.2.2.2
  unfold a_getc at hr
  split at hr
  · rename_i a st
    split at hr
    · rename_i x ha
      cases h1 : Nat.ble (am_wd st) 8 with
      | false => rw [h1] at hr; contradiction
      | true =>
        rw [h1] at hr
        have e9 := Option.some.inj (show some _ = some r from hr); subst e9; subst hn
        have h8 : am_wd st ≤ 8 := Nat.le_of_ble_eq_true h1
        intro H ls locs cells slots r1 r2 r3 r4 r5
        obtain ⟨ws, hP, hD, hw1⟩ := r1.2.1
        obtain ⟨k0, hk0⟩ := hw1 a _ ha rfl
        obtain ⟨mi, hG, hM⟩ := w.2.2.2.2.1
        have hc : H[a]? = some (vp_cell (tc 4) x) := hP k0 _ hk0
        refine va_getC hx hb r2.size.symm hown (hts _ hl) w.2.2.2.2.2.1.2.1.use (hts _ hse) (hts _ hin) (hts _ hna) hM ⟨_, hc, by obtain ⟨n, f | f | f | f | f⟩ := x <;> rfl, ?_⟩ (by omega) (by rw [am_cat8]; omega) hd (by rw [← hG]; exact po.2 H ls locs cells slots r1 r2 r3 r4 r5)
        rw [show (vp_cell (tc 4) x).cls = tc 4 by obtain ⟨n, f | f | f | f | f⟩ := x <;> rfl]
        exact va_nmO (C := "java/lang/Object") (w.1.2 4 _ rfl).2 (by decide)
    · contradiction
  · contradiction
theorem sn_clone {index t : Nat} {ad : String} (hd : decode cc pc = .ok (.invokevirtual index, 3)) (hl : Cond.methodLink own index ⟨ad, "clone", "()Ljava/lang/Object;"⟩ ∈ lw_all) (hsa : Cond.sameMethod ad "java/lang/Object" "clone" "()Ljava/lang/Object;" ∈ lw_all) (hna : Cond.native ⟨"java/lang/Object", "clone", "()Ljava/lang/Object;"⟩ ∈ lw_all) (hin : Cond.instanceMethod ⟨"java/lang/Object", "clone", "()Ljava/lang/Object;"⟩ ∈ lw_all) (hse : Cond.selects ad ⟨ad, "clone", "()Ljava/lang/Object;"⟩ ⟨"java/lang/Object", "clone", "()Ljava/lang/Object;"⟩ ∈ lw_all) (hcs : Cond.castable ad "java/lang/Cloneable" ∈ am_nw) (hnm : ∀ s : State, va_RA s (tc t) (am_ty t) → s.vm.findClass ad = some (tc t)) (ht4 : t ≠ 4) (h7 : t < 7) (hn : pc + 3 = nx) : am_SN l D tc G bs own nm cc mL ret hh pc (a_clone t nx) := by
  refine ⟨fun G L st h r hr => ?_, ?_⟩
  · unfold a_clone at hr
    (repeat' split at hr) <;> first | contradiction | (simp only [cond_eq_ite] at hr; (repeat' split at hr) <;> first | contradiction | (have e9 := Option.some.inj (show some _ = some r from hr); subst e9; first | exact mo_refl | exact mo_set | exact mo_new | rfl)) | (have e9 := Option.some.inj (show some _ = some r from hr); subst e9; first | exact mo_refl | exact mo_set | exact mo_new | rfl)
  intro p e R s m args below meth c d sl0 O X L st h r hr po hLn
  obtain ⟨hx, hb, hmL, hrt, hlk, hown, hts, hmn, w, hst, hR, hno⟩ := X
  have hbs := w.2.2.2.2.2.2.2.2.2.2.2.2.2
  unfold a_clone at hr
  split at hr
  · rename_i a st
    split at hr
    · rename_i t0 n x ha
      cases h1 : (am_cq t0 t && Nat.ble (am_wd st) 8) with
      | false => rw [h1] at hr; contradiction
      | true =>
        rw [h1] at hr
        have e9 := Option.some.inj (show some _ = some r from hr); subst e9; subst hn
        simp only [Bool.and_eq_true] at h1
        have h8 : am_wd st ≤ 8 := Nat.le_of_ble_eq_true h1.2
        exact kk_clone hx hb w.1 hbs hown (hts _ hl) (hts _ hsa) (hts _ hna) (hts _ hin) (hts _ hse) (w.2.2.2.2.2.2.2.2.1 _ _ hcs) (hnm _ (w.1.2 t _ (am_tys_at h7)).2) (by omega) (by omega) h8 po.1 hd ha h1.1 (fun q => absurd q ht4) po.2
    · contradiction
  · contradiction
theorem sn_copy {index : Nat} (hd : decode cc pc = .ok (.invokestatic index, 3)) (hl : Cond.methodLink own index arraycopyName ∈ lw_all) (hna : Cond.native arraycopyName ∈ lw_all) (hse : Cond.static arraycopyName ∈ lw_all) (hini : Cond.initialized "java/lang/System" ∈ lw_all) (hn : pc + 3 = nx) : am_SN l D tc G bs own nm cc mL ret hh pc (a_copy nx) := by
  refine ⟨fun G L st h r hr => ?_, ?_⟩
  · unfold a_copy at hr
    (repeat' split at hr) <;> first | contradiction | (simp only [cond_eq_ite] at hr; (repeat' split at hr) <;> first | contradiction | (have e9 := Option.some.inj (show some _ = some r from hr); subst e9; first | exact mo_refl | exact mo_set | exact mo_new | rfl)) | (have e9 := Option.some.inj (show some _ = some r from hr); subst e9; first | exact mo_refl | exact mo_set | exact mo_new | rfl)
  intro p e R s m args below meth c d sl0 O X L st h r hr po hLn
  obtain ⟨hx, hb, hmL, hrt, hlk, hown, hts, hmn, w, hst, hR, hno⟩ := X
  have hbs := w.2.2.2.2.2.2.2.2.2.2.2.2.2
  unfold a_copy at hr
  split at hr
  · rename_i n dp b sp a st
    split at hr
    · contradiction
    · rename_i hn9
      have h1 : ¬ sp < 0 := fun q => hn9 (Or.inl q)
      have h2 : ¬ dp < 0 := fun q => hn9 (Or.inr (Or.inl q))
      have h3 : ¬ n < 0 := fun q => hn9 (Or.inr (Or.inr q))
      split at hr
      · rename_i t n1 f t' n2 g ha hb9
        split at hr
        · rename_i hle
          cases h9 : (Nat.beq t' t && (Nat.blt t 3 && Nat.ble (am_wd st) 8)) with
          | false => rw [h9] at hr; contradiction
          | true =>
            rw [h9] at hr
            have e9 := Option.some.inj (show some _ = some r from hr); subst e9; subst hn
            simp only [Bool.and_eq_true] at h9
            have e0 := Nat.eq_of_beq_eq_true h9.1
            subst e0
            exact kk_copyi hx hb w.1 hown hbs (hts _ hl) (hts _ hna) (hts _ hse) (hts _ hini) (by omega) (by omega) (Nat.le_of_ble_eq_true h9.2.2) hd ha hb9 (Nat.le_of_ble_eq_true h9.2.1) h1 h2 h3 hle.1 hle.2 po.2
        · contradiction
      · rename_i n1 f n2 g ha hb9
        split at hr
        · rename_i hle
          cases h9 : Nat.ble (am_wd st) 8 with
          | false => rw [h9] at hr; contradiction
          | true =>
            rw [h9] at hr
            have e9 := Option.some.inj (show some _ = some r from hr); subst e9; subst hn
            exact kk_copyr hx hb w.1 w.2.1 hown hbs (hts _ hl) (hts _ hna) (hts _ hse) (hts _ hini) (by omega) (by omega) (Nat.le_of_ble_eq_true h9) hd ha hb9 h1 h2 h3 hle.1 hle.2 po.2
        · contradiction
      · contradiction
  · contradiction
theorem sn_tsw {dflt lo hi : Int} {offs : Array Int} {len d0 : Nat} {ks : List (Int32 × Nat)} (hd : decode cc pc = .ok (.tableswitch dflt lo hi offs, len)) (hk : am_tk pc lo offs.toList ks = true) (hl : lo + offs.toList.length = hi + 1) (ht : (pc : Int) + dflt = (d0 : Nat)) : am_SN l D tc G bs own nm cc mL ret hh pc (a_sw ks d0) := by
  refine ⟨fun G L st h r hr => ?_, ?_⟩
  · unfold a_sw at hr
    (repeat' split at hr) <;> first | contradiction | (simp only [cond_eq_ite] at hr; (repeat' split at hr) <;> first | contradiction | (have e9 := Option.some.inj (show some _ = some r from hr); subst e9; first | exact mo_refl | exact mo_set | exact mo_new | rfl)) | (have e9 := Option.some.inj (show some _ = some r from hr); subst e9; first | exact mo_refl | exact mo_set | exact mo_new | rfl)
  intro p e R s m args below meth c d sl0 O X L st h r hr po hLn
  obtain ⟨hx, hb, hmL, hrt, hlk, hown, hts, hmn, w, hst, hR, hno⟩ := X
  have hbs := w.2.2.2.2.2.2.2.2.2.2.2.2.2
  unfold a_sw at hr
  split at hr
  · rename_i x st
    have e9 := Option.some.inj (show some _ = some r from hr); subst e9
    refine kk_go (fun H ls locs cells slots q ww => ?_) po.2
    by_cases h1 : x.toInt < lo
    · exact lv_tableOut hx hb hd (Or.inl h1) ht (by rw [← am_tk_out (d := d0) hk (Or.inl h1)]; exact ww)
    · by_cases h2 : hi < x.toInt
      · have h3 : lo + (offs.toList.length : Int) ≤ x.toInt := by omega
        exact lv_tableOut hx hb hd (Or.inr h2) ht (by rw [← am_tk_out (d := d0) hk (Or.inr h3)]; exact ww)
      · obtain ⟨off, f1, f2⟩ := am_tk_in (d := d0) (x := x) hk (by omega) (by omega)
        exact lv_tableIn hx hb hd h1 h2 (by rw [← Array.getElem?_toList]; exact f1) f2 ww
  · contradiction
theorem sn_lsw {dflt : Int} {ps : Array (Int × Int)} {len d0 : Nat} {ks : List (Int32 × Nat)} (hd : decode cc pc = .ok (.lookupswitch dflt ps, len)) (hp : (ps.toList.zip (ps.toList.drop 1)).all (fun (a, next) => a.1 < next.1) = true) (hk : am_lk pc ps.toList ks = true) (ht : (pc : Int) + dflt = (d0 : Nat)) : am_SN l D tc G bs own nm cc mL ret hh pc (a_sw ks d0) := by
  refine ⟨fun G L st h r hr => ?_, ?_⟩
  · unfold a_sw at hr
    (repeat' split at hr) <;> first | contradiction | (simp only [cond_eq_ite] at hr; (repeat' split at hr) <;> first | contradiction | (have e9 := Option.some.inj (show some _ = some r from hr); subst e9; first | exact mo_refl | exact mo_set | exact mo_new | rfl)) | (have e9 := Option.some.inj (show some _ = some r from hr); subst e9; first | exact mo_refl | exact mo_set | exact mo_new | rfl)
  intro p e R s m args below meth c d sl0 O X L st h r hr po hLn
  obtain ⟨hx, hb, hmL, hrt, hlk, hown, hts, hmn, w, hst, hR, hno⟩ := X
  have hbs := w.2.2.2.2.2.2.2.2.2.2.2.2.2
  unfold a_sw at hr
  split at hr
  · rename_i x st
    have e9 := Option.some.inj (show some _ = some r from hr); subst e9
    exact kk_go (fun H ls locs cells slots q ww => lv_lookup hx hb hd hp rfl (am_lk_at ht hk) ww) po.2
  · contradiction
end
