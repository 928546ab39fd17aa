/-! new arrays, new objects -/
set_option maxRecDepth 100000
section GNW
variable {G : g_G} {p : Program} {l : Launch} {e : Env} {R : Room} {s : State} {m : MethodId} {args : Array Value} {below : List Frame} {meth : Method} {c : Code} {H : Heap} {locs : List Loc} {cells slots : Nat} {Q : State → Prop}
variable {cc : ByteArray} {pc : Nat} {ls : Array Slot} {rest : List Value} {own : String} {nL : Nat} {ret : Option FieldType} {A : Nat → Prop} {H0 : Heap}
theorem g_newa (X : g_X G p s m args meth c cc own nL ret) {atype : ArrayType} (harr : Cond.arrayClass (newarray.typeOf atype) ∈ lw_all) (t : Nat) (ht : (g_tys G)[t]? = some (G.2 t, newarray.typeOf atype)) (hS : va_S A H0 H locs) {n : Int32} {N : Nat} (hi : n = nI N) (hN : N ≤ 65536) {a0 : vp_A} (ha : ∀ cA : ClassId, vp_cell cA a0 = arrV cA N (fun _ => defaultValue (newarray.typeOf atype))) (hcells : cells + 1 ≤ R.cells) (hslots : slots + N ≤ R.slots) (d : decode cc pc = .ok (.newarray atype, 2))
    (kk : ∀ H1 : Heap, g_at G H1 H.size (.inl (G.2 t, a0)) → H1.size = H.size + 1 → (∀ q : Nat, q < H.size → H1[q]? = H[q]?) → va_S A H0 H1 locs → W p l e R s m args below meth c H1 locs (cells + 1) (slots + N) Q (F0 m (pc + 2) ls (.ref H.size :: rest))) : W p l e R s m args below meth c H locs cells slots Q (F0 m pc ls (.int n :: rest)) := by
  subst hi
  have hb : N * componentBytes (newarray.typeOf atype) ≤ 536870912 := by
    have : componentBytes (newarray.typeOf atype) ≤ 8 := by cases atype <;> decide
    exact Nat.le_trans (Nat.mul_le_mul hN this) (by decide)
  refine va_newaK X.1.1 X.1.2.1 (X.1.2.2.2.2 _ harr) rfl d rfl (fun z => nI_pos (by omega) z) (nI_clamp (by omega)) hb hcells hslots rfl fun H1 cA e1 z1 o1 _ hNm => ?_
  have hRA := (X.2.2.2.2 t _ ht).2
  have hc : cA = G.2 t := by
    have h2 : s.vm.findClass ("[" ++ (newarray.typeOf atype).toString) = some (G.2 t) := by cases atype <;> exact hRA
    exact Option.some.inj (hNm.symm.trans h2)
  subst hc
  refine kk H1 ?_ z1 o1 ⟨Nat.le_trans hS.1 (by omega), fun x h1 h2 => (o1 x (Nat.lt_of_lt_of_le h1 hS.1)).trans (hS.2.1 x h1 h2), hS.2.2⟩
  show H1[H.size]? = some (vp_cell _ _)
  rw [ha]
  exact e1
theorem g_new (X : g_X G p s m args meth c cc own nL ret) {ci N idx : Nat} {C : String} {T : u_T} (hin : ∀ w ∈ u_ws C T N, w ∈ lw_all) (hc : g_cl[ci]? = some (C, T, N)) (ty : Nat → FieldType) (hty : ∀ k, k < N → parseFieldDescriptor (T k).2.2.1 = some (ty k)) (hcl : Cond.classLink own idx C ∈ lw_all) (hinst : Cond.instantiable C N ∈ lw_all) (hini : Cond.initialized C ∈ lw_all) (hS : va_S A H0 H locs) {fs : List Value} (hfs : ∀ j, j < N → defaultValue (ty j) = vp_V fs j) (hcells : cells + 1 ≤ R.cells) (hslots : slots + N ≤ R.slots) (d : decode cc pc = .ok (.new idx, 3))
    (kk : ∀ H1 : Heap, g_at G H1 H.size (g_ob ci fs) → H1.size = H.size + 1 → (∀ q : Nat, q < H.size → H1[q]? = H[q]?) → va_S A H0 H1 locs → W p l e R s m args below meth c H1 locs (cells + 1) (slots + N) Q (F0 m (pc + 3) ls (.ref H.size :: rest))) : W p l e R s m args below meth c H locs cells slots Q (F0 m pc ls rest) := by
  have hKn := X.2.2.2.1 ci _ hc
  refine W.newcK X.1.1 X.1.2.1 X.1.2.2.2.1 (X.1.2.2.2.2 _ hcl) (X.1.2.2.2.2 _ hinst) (X.1.2.2.2.2 _ hini) rfl d hcells hslots hKn.2.1 rfl fun H1 kC hkC e1 z1 o1 => ?_
  refine kk H1 ⟨_, hc, (u_born ty X.1.2.2.2.2 hin hKn hkC e1 hty).to hfs⟩ z1 o1 ⟨Nat.le_trans hS.1 (by omega), fun x h1 h2 => (o1 x (Nat.lt_of_lt_of_le h1 hS.1)).trans (hS.2.1 x h1 h2), hS.2.2⟩

/-- putfield of a final field, in a constructor -/
theorem g_putF {ci : Nat} {C : String} {T : u_T} {N : Nat} (hin : ∀ w ∈ u_ws C T N, w ∈ lw_all) (hc : g_cl[ci]? = some (C, T, N)) (ty0 : Nat → FieldType) (hty : ∀ k, k < N → parseFieldDescriptor (T k).2.2.1 = some (ty0 k)) (hnm : ∀ a, a < N → ∀ b, b < N → a ≠ b → (T a).2.1 ≠ (T b).2.1) (X : g_X G p s m args meth c cc own nL ret) (hin2 : meth.name = "<init>") {a : Nat} {fs : List Value} (h : g_at G H a (g_ob ci fs)) (hA : A a) (hS : va_S A H0 H locs) (k : Nat) (hk : k < N) {idx : Nat} {ref : String} (hq : Cond.fieldLink own idx ref (T k).2.1 (T k).2.2.1 ∈ lw_all) (hsame : ∀ x, s.fieldFound? (T k).1 (T k).2.1 (T k).2.2.1 = some x → s.fieldFound? ref (T k).2.1 (T k).2.2.1 = some x) (hfin : (T k).2.2.2 = true) (hdecl : (T k).1 = own) {v : Value} (hn : narrow (ty0 k) v = v) (hfit : fits (ty0 k) v = true) (hl : k < fs.length) (d : decode cc pc = .ok (.putfield idx, 3))
    (kk : ∀ (H1 : Heap) (locs1 : List Loc), g_at G H1 a (g_ob ci (fs.set k v)) → H1.size = H.size → (∀ q : Nat, q ≠ a → H1[q]? = H[q]?) → va_S A H0 H1 locs1 → W p l e R s m args below meth c H1 locs1 cells slots Q (F0 m (pc + 3) ls rest)) : W p l e R s m args below meth c H locs cells slots Q (F0 m pc ls (v :: .ref a :: rest)) := by
  have hap := va_apart (own := own) X.1.2.2.2.2 hin ty0 hty hnm X.2.2.2 hc
  obtain ⟨r, h1, cell, q1, q2, q3, q4⟩ := h
  have hr : r = (C, T, N) := Option.some.inj (h1.symm.trans hc)
  subst hr
  obtain ⟨hS1, hfc, kC, hkC, hkind⟩ := X.2.2.2.1 ci _ hc
  obtain ⟨cf, kf, fi, f, hi, hsl⟩ := hS1 k hk
  have hlay := X.1.2.2.2.2 _ (hin _ (u_in_lay hk))
  unfold u_lay at hlay
  rw [if_pos hfin] at hlay
  have hst := (u_facts hfc hkC (u_lays X.1.2.2.2.2 hin hk) hi).1
  have hcf : m.cls = cf := by
    obtain ⟨_, _, c', _, _, _, -, -, hf', -, -, -, hown2, -⟩ := Cond.laysFinal_spec hlay
    have e1 : c' = cf := by have := hi.symm.trans hf'; simp at this; exact this.1.symm
    rw [hdecl] at hown2
    rw [← e1]; exact Option.some.inj (X.1.2.2.2.1.symm.trans hown2)
  have h6 := u_fits hfc hkC hkind (Or.inr hlay) hi (hty k hk) hn hfit
  refine W.putFinK X.1.1 X.1.2.1 X.1.2.2.2.1 (X.1.2.2.2.2 _ hq) (hsame _ hi) hst hcf hin2 (by rw [q2]; exact h6) q1 q3 (by rw [hsl]; exact k2_hasslot (q4 k hk)) rfl rfl d fun H' e1 e2 e3 => ?_
  rw [hsl] at e1 ⊢
  exact kk H' _ ⟨_, hc, t_OB.to (V := updV (vp_V fs) k v) ⟨_, e1, q2, q3, t_set q4 hap hk v⟩ (fun j _ => vp_updV_set hl v j)⟩ e2 e3 (hS.put e2 e3 hA)
end GNW
section GSC
variable {G : g_G} {l : Launch} {y : MethodName} {cc : ByteArray} {nL : Nat} {ret : Option FieldType} {k mc ms : Nat} {av : List Value} {P : Heap → Prop} {A : Nat → Prop}
/-- the start of a constructor -/
theorem g_Me.ofC {Q0 : Option Value → Heap → Prop} (hy : plainName y.cls = true) (hyn : y.name = "<init>") 
    (body : ∀ (p : Program) (e : Env) (s : State) (m : MethodId) (args : Array Value) (below : List Frame) (meth : Method) (c : Code) (ls : Array Slot) (Q : State → Prop), g_X G p s m args meth c cc y.cls nL none → meth.name = "<init>" → g_Ev G A s s.heap → P s.heap → lv_has ls nL (lv_args 0 av) → va_S A s.heap s.heap [] →
      (∀ (H : Heap) (locs : List Loc) (cells slots pc : Nat) (ls' : Array Slot), decode cc pc = .ok (.return_, 1) → va_S A s.heap H locs → cells ≤ mc → slots ≤ ms → Q0 none H → W p l e (g_rm k mc ms) s m args below meth c H locs cells slots Q (F0 m pc ls' [])) →
      W p l e (g_rm k mc ms) s m args below meth c s.heap [] 0 0 Q (F0 m 0 ls [])) (hL : (lg_sl av).length ≤ nL := by exact Nat.le_of_ble_eq_true rfl) : g_Me G l y cc nL none k mc ms av P Q0 A := by
  refine Met.ofW (cc := cc) (maxL := nL) (ret := none) hy rfl ?_
  intro p e s m args below meth c s₁ B hml hv
  obtain ⟨rfl, hK, hE, hP⟩ := hv
  have hts := atoms_spec (ws := ws_ y cc nL none) B.pre
  have hX : g_X G p s m av.toArray meth c cc y.cls nL none := ⟨⟨B.exec, B.bytes, hml, findClass_of_methodNamed B.named, fun w h => hts w (List.mem_cons_of_mem _ h)⟩, B.returns, B.notSynchronized, hK⟩
  have hin : meth.name = "<init>" := (name_of_methodNamed B.named B.method).1.trans hyn
  rw [lg_entry_eq]
  refine body p e s m av.toArray below meth c _ _ hX hin hE hP (lv_entry av hL) va_S.rf fun H locs cells slots pc ls' d hS hc hs hq => ?_
  refine W.widen (k := mc) (n := ms) hc hs ?_
  exact W.vret hX.1.1 hX.1.2.1 hX.2.1 (fun t ht _ => ⟨⟨_, rfl, by rw [ht]; exact hq⟩, hS.F ht⟩) hS.2.2 d hX.2.2.1

end GSC
section GOB
variable {G : g_G} {p : Program} {l : Launch} {e : Env} {R : Room} {s : State} {m : MethodId} {args : Array Value} {below : List Frame} {meth : Method} {c : Code} {H : Heap} {locs : List Loc} {cells slots : Nat} {Q : State → Prop}
variable {cc : ByteArray} {pc : Nat} {ls : Array Slot} {rest : List Value} {own : String} {nL : Nat} {ret : Option FieldType}
/-- Object's constructor -/
theorem g_obj (X : g_X G p s m args meth c cc own nL ret) {lv0 : List (Nat × Value)} (hl : lv_has ls nL lv0) {a idx : Nat} (hq : Cond.methodLink own idx Lib.objectInit ∈ lw_all) (h1 : Cond.instanceMethod Lib.objectInit ∈ lw_all) (h2 : Cond.code Lib.objectInit ⟨#[0xb1]⟩ 1 none ∈ lw_all) (hf : 1 ≤ R.frames) (hw : (rest.map fun v => v.category).sum + 12 ≤ R.locals) (d : decode cc pc = .ok (.invokespecial idx, 3))
    (kk : W p l e R s m args below meth c H locs cells slots Q (F0 m (pc + 3) ls rest)) : W p l e R s m args below meth c H locs cells slots Q (F0 m pc ls (.ref a :: rest)) :=
  W.objInit X.1.1 X.1.2.1 X.1.2.2.2.1 (X.1.2.2.2.2 _ hq) (X.1.2.2.2.2 _ h1) (X.1.2.2.2.2 _ h2) rfl (hl.1.trans X.1.2.2.1.symm) rfl d hf (by simpa using hw) kk
end GOB
