/-! methods that answer a float or a double -/
set_option maxRecDepth 100000
section GSF
variable {G : g_G} {l : Launch} {y : MethodName} {cc : ByteArray} {nL : Nat} {ret : Option FieldType} {k mc ms : Nat} {av : List Value} {P : Heap → Prop}
/-- the start of a method that changes cells and answers an int (or boolean) -/
theorem g_Md.ofF {Q0 : Option Value → Heap → Prop} {A : Nat → Prop} (hy : plainName y.cls = true) 
    (body : ∀ (p : Program) (e : Env) (s : State) (m : MethodId) (args : Array Value) (below : List Frame) (meth : Method) (c : Code) (ls : Array Slot) (Q : State → Prop), g_X G p s m args meth c cc y.cls nL (some .float) → P s.heap → lv_has ls nL (lv_args 0 av) → va_S A s.heap s.heap [] →
      (∀ (H : Heap) (locs : List Loc) (cells slots pc : Nat) (ls' : Array Slot) (r : UInt32), decode cc pc = .ok (.freturn, 1) → va_S A s.heap H locs → cells ≤ mc → slots ≤ ms → Q0 (some (.float r)) H → W p l e (g_rm k mc ms) s m args below meth c H locs cells slots Q (F0 m pc ls' [.float r])) →
      W p l e (g_rm k mc ms) s m args below meth c s.heap [] 0 0 Q (F0 m 0 ls [])) (hL : (lg_sl av).length ≤ nL := by exact Nat.le_of_ble_eq_true rfl) : g_Md G l y cc nL (some .float) k mc ms av P Q0 A := by
  refine Met.ofW (cc := cc) (maxL := nL) (ret := some .float) hy rfl ?_
  intro p e s m args below meth c s₁ B hml hv
  obtain ⟨rfl, hK, hP⟩ := hv
  have hts := atoms_spec (ws := ws_ y cc nL (some .float)) B.pre
  have hX : g_X G p s m av.toArray meth c cc y.cls nL (some .float) := ⟨⟨B.exec, B.bytes, hml, findClass_of_methodNamed B.named, fun w h => hts w (List.mem_cons_of_mem _ h)⟩, B.returns, B.notSynchronized, hK⟩
  rw [lg_entry_eq]
  refine body p e s m av.toArray below meth c _ _ hX hP (lv_entry av hL) va_S.rf fun H locs cells slots pc ls' r d hS hc hs hq => ?_
  refine W.widen (k := mc) (n := ms) hc hs ?_
  exact W.fret hX.1.1 hX.1.2.1 hX.2.1 (fun t ht _ => ⟨⟨_, rfl, by rw [ht]; exact hq⟩, hS.F ht⟩) hS.2.2 d hX.2.2.1
/-- the start of a method that changes cells and answers an int (or boolean) -/
theorem g_Md.ofD {Q0 : Option Value → Heap → Prop} {A : Nat → Prop} (hy : plainName y.cls = true) 
    (body : ∀ (p : Program) (e : Env) (s : State) (m : MethodId) (args : Array Value) (below : List Frame) (meth : Method) (c : Code) (ls : Array Slot) (Q : State → Prop), g_X G p s m args meth c cc y.cls nL (some .double) → P s.heap → lv_has ls nL (lv_args 0 av) → va_S A s.heap s.heap [] →
      (∀ (H : Heap) (locs : List Loc) (cells slots pc : Nat) (ls' : Array Slot) (r : UInt64), decode cc pc = .ok (.dreturn, 1) → va_S A s.heap H locs → cells ≤ mc → slots ≤ ms → Q0 (some (.double r)) H → W p l e (g_rm k mc ms) s m args below meth c H locs cells slots Q (F0 m pc ls' [.double r])) →
      W p l e (g_rm k mc ms) s m args below meth c s.heap [] 0 0 Q (F0 m 0 ls [])) (hL : (lg_sl av).length ≤ nL := by exact Nat.le_of_ble_eq_true rfl) : g_Md G l y cc nL (some .double) k mc ms av P Q0 A := by
  refine Met.ofW (cc := cc) (maxL := nL) (ret := some .double) hy rfl ?_
  intro p e s m args below meth c s₁ B hml hv
  obtain ⟨rfl, hK, hP⟩ := hv
  have hts := atoms_spec (ws := ws_ y cc nL (some .double)) B.pre
  have hX : g_X G p s m av.toArray meth c cc y.cls nL (some .double) := ⟨⟨B.exec, B.bytes, hml, findClass_of_methodNamed B.named, fun w h => hts w (List.mem_cons_of_mem _ h)⟩, B.returns, B.notSynchronized, hK⟩
  rw [lg_entry_eq]
  refine body p e s m av.toArray below meth c _ _ hX hP (lv_entry av hL) va_S.rf fun H locs cells slots pc ls' r d hS hc hs hq => ?_
  refine W.widen (k := mc) (n := ms) hc hs ?_
  exact W.dret hX.1.1 hX.1.2.1 hX.2.1 (fun t ht _ => ⟨⟨_, rfl, by rw [ht]; exact hq⟩, hS.F ht⟩) hS.2.2 d hX.2.2.1
end GSF
def s_share (X : g_Wd) : UInt32 := if X 0 5 ≤ 0 then FP.fconst0 else FP.fdiv (FP.i2f (X 0 6)) (FP.i2f (X 0 5))
def s_mean (X : g_Wd) : UInt64 := if s_arrd X = 0 then FP.dconst0 else FP.ddiv (FP.i2d (s_hours X)) (FP.i2d (nI (s_arrd X)))
theorem s_arrd_le {X : g_Wd} (h : s_ok X) : s_arrd X ≤ 6 := Nat.le_trans (s_cnt_le _ _) h.2.1.2
