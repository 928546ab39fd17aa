/-! THE LAYER: one table of kinds for all objects; contracts that read only (g_Rd), contracts that change cells (g_Md); rows over single cells -/
set_option maxRecDepth 100000
abbrev g_G : Type := va_G × (Nat → ClassId)
abbrev g_cl : List vw_C := [(RX1, TX1, 8), (RX2, TX2, 22), (RX3, TX3, 7), (RX4, TX4, 8), (RX5, TX5, 7), (RX6, TX6, 8), (RX7, TX7, 2), (RX8, TX8, 8), (RX9, TX9, 4), (RJ19, TJ19, 3), (RJ22, TJ22, 4), (RJ1, TJ1, 3), (RJ3, TJ3, 4), (RJ4, TJ4, 4)]
/-- 0 int[], 1 byte[], 2 boolean[], 3 Object[], 4 int[][], 5 World[], 6 long[], 7 double[] -/
abbrev g_tys (G : g_G) : List (ClassId × FieldType) := [(G.2 0, .int), (G.2 1, .byte), (G.2 2, .boolean), (G.2 3, .object "java/lang/Object"), (G.2 4, .array .int), (G.2 5, .object "VotingHuts$World"), (G.2 6, .long), (G.2 7, .double)]
def g_K (G : g_G) (U : State) : Prop := va_K G.1 g_cl (g_tys G) U
def g_at (G : g_G) (H : Heap) (a : Nat) (e : va_E) : Prop := va_at G.1 g_cl (a, e) H
abbrev g_ob (ci : Nat) (fs : List Value) : va_E := .inr (ci, fs)
abbrev g_ai (G : g_G) (t n : Nat) (f : Nat → Int32) : va_E := .inl (G.2 t, n, .inl f)
abbrev g_al (G : g_G) (t n : Nat) (f : Nat → Int64) : va_E := .inl (G.2 t, n, .inr (.inl f))
abbrev g_ad (G : g_G) (t n : Nat) (f : Nat → UInt64) : va_E := .inl (G.2 t, n, .inr (.inr (.inr (.inl f))))
abbrev g_ar (G : g_G) (t n : Nat) (f : Nat → Option Nat) : va_E := .inl (G.2 t, n, .inr (.inr (.inr (.inr f))))
abbrev g_rm (k mc ms : Nat) : Room := { frames := k, cells := mc, slots := ms, locals := 40 * k }
theorem g_at.P {G : g_G} {H : Heap} {a : Nat} {e : va_E} (h : g_at G H a e) : va_P G.1 g_cl [(a, e)] H := by
  intro k q hk
  have hz : k < 1 := (List.getElem?_eq_some_iff.mp hk).1
  rw [show k = 0 by omega] at hk
  cases hk
  exact h
theorem g_at.of {G : g_G} {H : Heap} {a : Nat} {e : va_E} (h : va_P G.1 g_cl [(a, e)] H) : g_at G H a e := h 0 (a, e) rfl
theorem g_at.kept {G : g_G} {H H1 : Heap} {a : Nat} {e : va_E} (h : g_at G H a e) (hq : H1[a]? = H[a]?) : g_at G H1 a e := va_at.kept h hq
theorem g_at.lt {G : g_G} {H : Heap} {a : Nat} {e : va_E} (h : g_at G H a e) : a < H.size := va_at.lt h
theorem g_D1 {A : Nat → Prop} {a : Nat} {e : va_E} (h : A a) : va_D A [(a, e)] := by
  refine ⟨fun i j p q hi hj _ => ?_, fun k q hk => ?_⟩
  · have h1 : i < 1 := (List.getElem?_eq_some_iff.mp hi).1
    have h2 : j < 1 := (List.getElem?_eq_some_iff.mp hj).1
    omega
  · have h1 : k < 1 := (List.getElem?_eq_some_iff.mp hk).1
    rw [show k = 0 by omega] at hk
    cases hk
    exact h
/-- what stands all through a method's body -/
def g_X (G : g_G) (p : Program) (s : State) (m : MethodId) (args : Array Value) (meth : Method) (c : Code) (cc : ByteArray) (own : String) (nL : Nat) (ret : Option FieldType) : Prop :=
  CallFix p m c cc nL s args lw_all own ∧ meth.sig.returnType = ret ∧ meth.locks = false ∧ g_K G s
/-- a contract that only reads -/
def g_Rd (G : g_G) (l : Launch) (y : MethodName) (cc : ByteArray) (nL : Nat) (ret : Option FieldType) (k : Nat) (av : List Value) (P : Heap → Prop) (v : Option Value) : Prop :=
  Met l y (ws_ y cc nL ret) (g_rm k 0 0) (va_Pc av (fun U => g_K G U ∧ P U.heap)) (fun _ st oc t => oc = .returned v ∧ t.heap = st.heap) 0 0 (fun _ => False)
/-- a contract that may write the cells A (those that are new among them) and make mc cells of ms slots -/
def g_Md (G : g_G) (l : Launch) (y : MethodName) (cc : ByteArray) (nL : Nat) (ret : Option FieldType) (k mc ms : Nat) (av : List Value) (P : Heap → Prop) (Q : Option Value → Heap → Prop) (A : Nat → Prop) : Prop :=
  Met l y (ws_ y cc nL ret) (g_rm k mc ms) (va_Pc av (fun U => g_K G U ∧ P U.heap)) (fun _ st oc t => (∃ v, oc = .returned v ∧ Q v t.heap) ∧ va_F A st t) mc ms A
/-- a method's own facts, for its calls -/
def g_Y (y : MethodName) (cc : ByteArray) (nL : Nat) (ret : Option FieldType) (n : Nat) : Prop :=
  Cond.code y cc nL ret ∈ lw_all ∧ (y.cls ≠ "java/lang/invoke/MethodHandle" ∧ y.cls ≠ "java/lang/invoke/VarHandle" ∧ (parseMethodDescriptor y.desc).map (fun d => d.parameters.length) = some n)
def g_YV (y : MethodName) : Prop := Cond.instanceMethod y ∈ lw_all ∧ Cond.selects y.cls y y ∈ lw_all ∧ Cond.initialized y.cls ∈ lw_all
def g_YS (y : MethodName) : Prop := Cond.static y ∈ lw_all ∧ Cond.initialized y.cls ∈ lw_all
def g_YI (y : MethodName) : Prop := Cond.instanceMethod y ∈ lw_all ∧ Cond.initialized y.cls ∈ lw_all ∧ y.name = "<init>"
/-- the receiver's cell -/
def g_rc (s : State) (H : Heap) (C : String) (b : Nat) : Prop := ∃ cell : Cell, H[b]? = some cell ∧ cell.vm.isStatics = false ∧ s.vm.findClass C = some cell.cls
theorem g_at.rc {G : g_G} {s : State} {H : Heap} {b ci : Nat} {fs : List Value} {q : vw_C} (h : g_at G H b (g_ob ci fs)) (hK : g_K G s) (hc : g_cl[ci]? = some q) : g_rc s H q.1 b :=
  va_recv (q0 := 0) hK h.P hc rfl
theorem g_blind {G : g_G} {av : List Value} {P : Heap → Prop} : FrameBlind (va_Pc av (fun U => g_K G U ∧ P U.heap)) := by
  intro a U g mk h
  exact ⟨h.1, va_K.moved (u := U) (U := U.calling g mk a) (Vm.Alike.refl U.vm) h.2.1, h.2.2⟩
section GS
variable {G : g_G} {l : Launch} {y : MethodName} {cc : ByteArray} {nL : Nat} {ret : Option FieldType} {k mc ms : Nat} {av : List Value} {P : Heap → Prop}
theorem g_retI {p : Program} {e : Env} {R : Room} {s : State} {m : MethodId} {args : Array Value} {below : List Frame} {meth : Method} {c : Code} {H : Heap} {locs : List Loc} {cells slots : Nat} {own : String} {ty : FieldType} {Qc : Array Value → State → Outcome → State → Prop} {free : Addr → Prop} {r : Int32} (X : g_X G p s m args meth c cc own nL (some ty)) (hn : narrow ty (.int r) = .int r)
    (hq : ∀ t : State, t.heap = H → s.WarmedH t.vm → Qc args s (.returned (some (.int r))) t) (hf : ∀ q ∈ locs, free q.base) {pc : Nat} {ls : Array Slot} (d : decode cc pc = .ok (.ireturn, 1)) : W p l e R s m args below meth c H locs cells slots (MQ below Qc args s cells slots free) (F0 m pc ls [.int r]) :=
  W.zret X.1.1 X.1.2.1 X.2.1 hn hq hf d X.2.2.1
/-- the start of a reading method that answers an int (or boolean) -/
theorem g_Rd.ofI {v : Int32} {ty : FieldType} (hy : plainName y.cls = true) (hty : narrow ty (.int v) = .int v)
    (body : ∀ (p : Program) (e : Env) (s : State) (m : MethodId) (args : Array Value) (below : List Frame) (meth : Method) (c : Code) (ls : Array Slot) (Q : State → Prop), g_X G p s m args meth c cc y.cls nL (some ty) → P s.heap → lv_has ls nL (lv_args 0 av) →
      (∀ (pc : Nat) (ls' : Array Slot) (r : Int32), decode cc pc = .ok (.ireturn, 1) → r = v → W p l e (g_rm k 0 0) s m args below meth c s.heap [] 0 0 Q (F0 m pc ls' [.int r])) →
      W p l e (g_rm k 0 0) s m args below meth c s.heap [] 0 0 Q (F0 m 0 ls [])) (hL : (lg_sl av).length ≤ nL := by exact Nat.le_of_ble_eq_true rfl) : g_Rd G l y cc nL (some ty) k av P (some (.int v)) := by
  refine Met.ofW (cc := cc) (maxL := nL) (ret := some ty) hy rfl ?_
  intro p e s m args below meth c s₁ B hml hv
  obtain ⟨rfl, hK, hP⟩ := hv
  have hts := atoms_spec (ws := ws_ y cc nL (some ty)) B.pre
  have hX : g_X G p s m av.toArray meth c cc y.cls nL (some ty) := ⟨⟨B.exec, B.bytes, hml, findClass_of_methodNamed B.named, fun w h => hts w (List.mem_cons_of_mem _ h)⟩, B.returns, B.notSynchronized, hK⟩
  rw [lg_entry_eq]
  refine body p e s m av.toArray below meth c _ _ hX hP (lv_entry av hL) fun pc ls' r d hr => ?_
  subst hr
  exact g_retI hX hty (fun t ht _ => ⟨rfl, ht⟩) (fun q h => by cases h) d
/-- the start of a method that changes cells and answers an int (or boolean) -/
theorem g_Md.ofI {ty : FieldType} {Q0 : Option Value → Heap → Prop} {A : Nat → Prop} (hy : plainName y.cls = true) (hty : ∀ (r : Int32) (H : Heap), Q0 (some (.int r)) H → narrow ty (.int r) = .int r)
    (body : ∀ (p : Program) (e : Env) (s : State) (m : MethodId) (args : Array Value) (below : List Frame) (meth : Method) (c : Code) (ls : Array Slot) (Q : State → Prop), g_X G p s m args meth c cc y.cls nL (some ty) → P s.heap → lv_has ls nL (lv_args 0 av) → va_S A s.heap s.heap [] →
      (∀ (H : Heap) (locs : List Loc) (cells slots pc : Nat) (ls' : Array Slot) (r : Int32), decode cc pc = .ok (.ireturn, 1) → va_S A s.heap H locs → cells ≤ mc → slots ≤ ms → Q0 (some (.int r)) H → W p l e (g_rm k mc ms) s m args below meth c H locs cells slots Q (F0 m pc ls' [.int r])) →
      W p l e (g_rm k mc ms) s m args below meth c s.heap [] 0 0 Q (F0 m 0 ls [])) (hL : (lg_sl av).length ≤ nL := by exact Nat.le_of_ble_eq_true rfl) : g_Md G l y cc nL (some ty) k mc ms av P Q0 A := by
  refine Met.ofW (cc := cc) (maxL := nL) (ret := some ty) hy rfl ?_
  intro p e s m args below meth c s₁ B hml hv
  obtain ⟨rfl, hK, hP⟩ := hv
  have hts := atoms_spec (ws := ws_ y cc nL (some ty)) B.pre
  have hX : g_X G p s m av.toArray meth c cc y.cls nL (some ty) := ⟨⟨B.exec, B.bytes, hml, findClass_of_methodNamed B.named, fun w h => hts w (List.mem_cons_of_mem _ h)⟩, B.returns, B.notSynchronized, hK⟩
  rw [lg_entry_eq]
  refine body p e s m av.toArray below meth c _ _ hX hP (lv_entry av hL) va_S.rf fun H locs cells slots pc ls' r d hS hc hs hq => ?_
  refine W.widen (k := mc) (n := ms) hc hs ?_
  exact g_retI hX (hty r H hq) (fun t ht _ => ⟨⟨_, rfl, by rw [ht]; exact hq⟩, hS.F ht⟩) hS.2.2 d
/-- the start of a method that changes cells and answers nothing -/
theorem g_Md.ofV {Q0 : Option Value → Heap → Prop} {A : Nat → Prop} (hy : plainName y.cls = true)
    (body : ∀ (p : Program) (e : Env) (s : State) (m : MethodId) (args : Array Value) (below : List Frame) (meth : Method) (c : Code) (ls : Array Slot) (Q : State → Prop), g_X G p s m args meth c cc y.cls nL none → P s.heap → lv_has ls nL (lv_args 0 av) → va_S A s.heap s.heap [] →
      (∀ (H : Heap) (locs : List Loc) (cells slots pc : Nat) (ls' : Array Slot), decode cc pc = .ok (.return_, 1) → va_S A s.heap H locs → cells ≤ mc → slots ≤ ms → Q0 none H → W p l e (g_rm k mc ms) s m args below meth c H locs cells slots Q (F0 m pc ls' [])) →
      W p l e (g_rm k mc ms) s m args below meth c s.heap [] 0 0 Q (F0 m 0 ls [])) (hL : (lg_sl av).length ≤ nL := by exact Nat.le_of_ble_eq_true rfl) : g_Md G l y cc nL none k mc ms av P Q0 A := by
  refine Met.ofW (cc := cc) (maxL := nL) (ret := none) hy rfl ?_
  intro p e s m args below meth c s₁ B hml hv
  obtain ⟨rfl, hK, hP⟩ := hv
  have hts := atoms_spec (ws := ws_ y cc nL none) B.pre
  have hX : g_X G p s m av.toArray meth c cc y.cls nL none := ⟨⟨B.exec, B.bytes, hml, findClass_of_methodNamed B.named, fun w h => hts w (List.mem_cons_of_mem _ h)⟩, B.returns, B.notSynchronized, hK⟩
  rw [lg_entry_eq]
  refine body p e s m av.toArray below meth c _ _ hX hP (lv_entry av hL) va_S.rf fun H locs cells slots pc ls' d hS hc hs hq => ?_
  refine W.widen (k := mc) (n := ms) hc hs ?_
  exact W.vret hX.1.1 hX.1.2.1 hX.2.1 (fun t ht _ => ⟨⟨_, rfl, by rw [ht]; exact hq⟩, hS.F ht⟩) hS.2.2 d hX.2.2.1
end GS
section GR
variable {G : g_G} {p : Program} {l : Launch} {e : Env} {R : Room} {s : State} {m : MethodId} {args : Array Value} {below : List Frame} {meth : Method} {c : Code} {H : Heap} {locs : List Loc} {cells slots : Nat} {Q : State → Prop}
variable {cc : ByteArray} {pc : Nat} {ls : Array Slot} {rest : List Value} {own : String} {nL : Nat} {ret : Option FieldType} {a : Nat} {A : Nat → Prop} {H0 : Heap}
/-- getfield -/
theorem g_get {ci : Nat} {C : String} {T : u_T} {N : Nat} (hin : ∀ w ∈ u_ws C T N, w ∈ lw_all) (hc : g_cl[ci]? = some (C, T, N)) (X : g_X G p s m args meth c cc own nL ret) {fs : List Value} (h : g_at G H a (g_ob ci fs)) (k : Nat) (hk : k < N) {idx : Nat} {ref : String} (hq : Cond.fieldLink own idx ref (T k).2.1 (T k).2.2.1 ∈ lw_all) (hsame : ∀ x, s.fieldFound? (T k).1 (T k).2.1 (T k).2.2.1 = some x → s.fieldFound? ref (T k).2.1 (T k).2.2.1 = some x) {v : Value} (hv : fs[k]? = some v) (d : decode cc pc = .ok (.getfield idx, 3))
    (kk : W p l e R s m args below meth c H locs cells slots Q (F0 m (pc + 3) ls (v :: rest))) : W p l e R s m args below meth c H locs cells slots Q (F0 m pc ls (.ref a :: rest)) :=
  va_get (ws := [(a, g_ob ci fs)]) X.1.1 X.1.2.1 X.1.2.2.2.2 hin X.1.2.2.2.1 X.2.2.2 h.P 0 rfl hc k hk (X.1.2.2.2.2 _ hq) hsame hv d kk
/-- putfield of a field that isn't final -/
theorem g_put {ci : Nat} {C : String} {T : u_T} {N : Nat} (hin : ∀ w ∈ u_ws C T N, w ∈ lw_all) (hc : g_cl[ci]? = some (C, T, N)) (ty0 : Nat → FieldType) (hty : ∀ k, k < N → parseFieldDescriptor (T k).2.2.1 = some (ty0 k)) (hnm : ∀ a, a < N → ∀ b, b < N → a ≠ b → (T a).2.1 ≠ (T b).2.1) (X : g_X G p s m args meth c cc own nL ret) {fs : List Value} (h : g_at G H a (g_ob ci fs)) (hA : A a) (hS : va_S A H0 H locs) (k : Nat) (hk : k < N) {idx : Nat} {ref : String} (hq : Cond.fieldLink own idx ref (T k).2.1 (T k).2.2.1 ∈ lw_all) (hsame : ∀ x, s.fieldFound? (T k).1 (T k).2.1 (T k).2.2.1 = some x → s.fieldFound? ref (T k).2.1 (T k).2.2.1 = some x) (hfin : (T k).2.2.2 = false) {v : Value} (hn : narrow (ty0 k) v = v) (hfit : fits (ty0 k) v = true) (hl : k < fs.length) (d : decode cc pc = .ok (.putfield idx, 3))
    (kk : ∀ (H1 : Heap) (locs1 : List Loc), g_at G H1 a (g_ob ci (fs.set k v)) → (∀ q : Nat, q ≠ a → H1[q]? = H[q]?) → va_S A H0 H1 locs1 → W p l e R s m args below meth c H1 locs1 cells slots Q (F0 m (pc + 3) ls rest)) : W p l e R s m args below meth c H locs cells slots Q (F0 m pc ls (v :: .ref a :: rest)) := by
  have hap := va_apart (own := own) X.1.2.2.2.2 hin ty0 hty hnm X.2.2.2 hc
  obtain ⟨r, h1, cell, q1, q2, q3, q4⟩ := h
  have hr : r = (C, T, N) := Option.some.inj (h1.symm.trans hc)
  subst hr
  obtain ⟨hS1, hfc, kC, hkC, hkind⟩ := X.2.2.2.1 ci _ hc
  obtain ⟨cf, kf, fi, f, hi, hsl⟩ := hS1 k hk
  have hlay := X.1.2.2.2.2 _ (hin _ (u_in_lay hk))
  unfold u_lay at hlay
  rw [if_neg (by rw [hfin]; decide)] at hlay
  have hst := (u_facts hfc hkC (u_lays X.1.2.2.2.2 hin hk) hi).1
  have h6 := u_store hfc hkC hkind hlay hi (hty k hk) hn hfit
  refine W.putK X.1.1 X.1.2.1 (f := f) ⟨X.1.2.2.2.1, X.1.2.2.2.2 _ hq, ⟨_, _, _, hsame _ hi⟩, hst⟩ (by rw [q2]; exact h6) q1 q3 (by rw [hsl]; exact k2_hasslot (q4 k hk)) rfl rfl d fun H' e1 e2 e3 => ?_
  rw [hsl] at e1 ⊢
  exact kk H' _ ⟨_, hc, t_OB.to (V := updV (vp_V fs) k v) ⟨_, e1, q2, q3, t_set q4 hap hk v⟩ (fun j _ => vp_updV_set hl v j)⟩ e3 (hS.put e2 e3 hA)
/-- arrays of ints: read, write, length -/
theorem g_iald (X : g_X G p s m args meth c cc own nL ret) {n : Nat} {f : Nat → Int32} (h : g_at G H a (g_ai G 0 n f)) {i : Int32} (j : Nat) (hi : i = nI j) (hj : j < n) (hn : n < 2 ^ 31) {v : Int32} (hv : f j = v) (d : decode cc pc = .ok (.iaload, 1))
    (kk : W p l e R s m args below meth c H locs cells slots Q (F0 m (pc + 1) ls (.int v :: rest))) : W p l e R s m args below meth c H locs cells slots Q (F0 m pc ls (.int i :: .ref a :: rest)) := by
  subst hi; subst hv
  refine va_iald (ws := [(a, g_ai G 0 n f)]) X.1.1 X.1.2.1 X.2.2.2 h.P 0 0 rfl rfl (vp_in_nI hj hn) d ?_
  rw [nI_clamp (Nat.lt_trans hj hn)]
  exact kk
theorem g_bald (X : g_X G p s m args meth c cc own nL ret) {n : Nat} {f : Nat → Int32} (h : g_at G H a (g_ai G 1 n f)) {i : Int32} (j : Nat) (hi : i = nI j) (hj : j < n) (hn : n < 2 ^ 31) {v : Int32} (hv : f j = v) (d : decode cc pc = .ok (.baload, 1))
    (kk : W p l e R s m args below meth c H locs cells slots Q (F0 m (pc + 1) ls (.int v :: rest))) : W p l e R s m args below meth c H locs cells slots Q (F0 m pc ls (.int i :: .ref a :: rest)) := by
  subst hi; subst hv
  refine va_bald (ws := [(a, g_ai G 1 n f)]) X.1.1 X.1.2.1 X.2.2.2 h.P 0 1 rfl rfl (vp_in_nI hj hn) d ?_
  rw [nI_clamp (Nat.lt_trans hj hn)]
  exact kk
theorem g_zald (X : g_X G p s m args meth c cc own nL ret) {n : Nat} {f : Nat → Int32} (h : g_at G H a (g_ai G 2 n f)) {i : Int32} (j : Nat) (hi : i = nI j) (hj : j < n) (hn : n < 2 ^ 31) {v : Int32} (hv : f j = v) (d : decode cc pc = .ok (.baload, 1))
    (kk : W p l e R s m args below meth c H locs cells slots Q (F0 m (pc + 1) ls (.int v :: rest))) : W p l e R s m args below meth c H locs cells slots Q (F0 m pc ls (.int i :: .ref a :: rest)) := by
  subst hi; subst hv
  refine va_zald (ws := [(a, g_ai G 2 n f)]) X.1.1 X.1.2.1 X.2.2.2 h.P 0 2 rfl rfl (vp_in_nI hj hn) d ?_
  rw [nI_clamp (Nat.lt_trans hj hn)]
  exact kk
theorem g_iast (X : g_X G p s m args meth c cc own nL ret) {n : Nat} {f : Nat → Int32} (h : g_at G H a (g_ai G 0 n f)) (hA : A a) (hS : va_S A H0 H locs) {i x : Int32} (j : Nat) (hi : i = nI j) (hj : j < n) (hn : n < 2 ^ 31) (d : decode cc pc = .ok (.iastore, 1))
    (kk : ∀ (H1 : Heap) (locs1 : List Loc), g_at G H1 a (g_ai G 0 n (upd f j x)) → (∀ q : Nat, q ≠ a → H1[q]? = H[q]?) → va_S A H0 H1 locs1 → W p l e R s m args below meth c H1 locs1 cells slots Q (F0 m (pc + 1) ls rest)) : W p l e R s m args below meth c H locs cells slots Q (F0 m pc ls (.int x :: .int i :: .ref a :: rest)) := by
  subst hi
  refine W.iast X.1.1 X.1.2.1 h ((X.2.2.2.2 0 _ rfl).1 n (fun j => .int (f j))) (fun q => by cases q) (by show ¬ (nI j < 0 ∨ (arrV _ _ _).slots.size ≤ _); rw [arrV_size]; exact vp_in_nI hj hn) rfl rfl d fun H1 e z oq => ?_
  refine kk H1 _ ?_ oq (hS.put z oq hA)
  show H1[a]? = some (vp_cell _ _)
  rw [e, nI_clamp (Nat.lt_trans hj hn)]
  rw [vp_cell_i, vp_cell_i, arrV_store]
  congr 2
  funext q
  by_cases hq : q = j
  · subst hq
    simp [updV, upd]
  · simp [updV, upd, hq]
theorem g_alen (X : g_X G p s m args meth c cc own nL ret) {t : Nat} {ty : FieldType} (ht : (g_tys G)[t]? = some (G.2 t, ty)) {x : vp_A} (h : g_at G H a (.inl (G.2 t, x))) {v : Int32} (hv : nI x.1 = v) (d : decode cc pc = .ok (.arraylength, 1))
    (kk : W p l e R s m args below meth c H locs cells slots Q (F0 m (pc + 1) ls (.int v :: rest))) : W p l e R s m args below meth c H locs cells slots Q (F0 m pc ls (.ref a :: rest)) :=
  va_alen (ws := [(a, .inl (G.2 t, x))]) X.1.1 X.1.2.1 X.2.2.2 h.P 0 t rfl ht hv d kk
/-- calls of reading methods -/
theorem g_goR {v : Option Value} {rest st0 st1 : List Value} (hr : va_Run p l e R s m args below meth c H locs cells slots 0 0 (F0 m pc ls st0) rest (fun st oc t => oc = .returned v ∧ t.heap = st.heap) (fun _ => False)) (hst1 : v.toList ++ rest = st1)
    (kk : W p l e R s m args below meth c H locs cells slots Q (F0 m (pc + 3) ls st1)) : W p l e R s m args below meth c H locs cells slots Q (F0 m pc ls st0) := by
  subst hst1
  intro T hT XT
  obtain ⟨v', st₀, t, T', L, h0, X', hL, e1, e2, ⟨hv, hh⟩, st⟩ := hr T hT XT
  cases hv
  obtain ⟨t2, a1, b1⟩ := kk T' (by rw [e1, hh, h0]) (Stand.forget X' (fun q h => (hL q h).elim))
  exact ⟨t2, st t2 a1, b1⟩
theorem g_cRV {y : MethodName} {bytes : ByteArray} {maxL n k' idx b : Nat} {ret' : Option FieldType} {As rest st st1 : List Value} {P : Heap → Prop} {v : Option Value} {lv0 : List (Nat × Value)} (X : g_X G p s m args meth c cc own nL ret) (hl : lv_has ls nL lv0) (hY : g_Y y bytes maxL ret' n) (hV : g_YV y) (hq : Cond.methodLink own idx y ∈ lw_all) (hM : g_Rd G l y bytes maxL ret' k' (.ref b :: As) P v) (hr : g_rc s H y.cls b) (hP : P H) (hn : As.length = n) (hR : k' + 1 ≤ R.frames ∧ 8 + (maxL + 11) + 40 * k' ≤ R.locals) (hc : cells ≤ R.cells ∧ slots ≤ R.slots) (hst : st = As.reverse ++ .ref b :: rest) (hst1 : v.toList ++ rest = st1) (hw : (rest.map fun v => v.category).sum ≤ 8) (d : decode cc pc = .ok (.invokevirtual idx, 3))
    (kk : W p l e R s m args below meth c H locs cells slots Q (F0 m (pc + 3) ls st1)) : W p l e R s m args below meth c H locs cells slots Q (F0 m pc ls st) := by
  subst hst
  have hcw : CallW R s args own y.cls idx y bytes maxL ret' (ws_ y bytes maxL ret') (g_rm k' 0 0) 0 0 n := cwV n X.1.2.2.2.2 (lw_V hq hV.1 hV.2.1 hV.2.2 hY.1) rfl rfl rfl ⟨rfl, hY.2⟩ hR
  exact g_goR (va_runV (As := As) (rest := rest) (cells := cells) (slots := slots) (locs := locs) X.1 hM hcw ⟨g_blind, hr, fun U hU hW => ⟨rfl, va_K.moved hW.alike X.2.2.2, by rw [hU]; exact hP⟩⟩ rfl hn hl.1 rfl (lv_room hw) d hc) hst1 kk
theorem g_cRS {y : MethodName} {bytes : ByteArray} {maxL n k' idx : Nat} {ret' : Option FieldType} {As rest st st1 : List Value} {P : Heap → Prop} {v : Option Value} {lv0 : List (Nat × Value)} (X : g_X G p s m args meth c cc own nL ret) (hl : lv_has ls nL lv0) (hY : g_Y y bytes maxL ret' n) (hV : g_YS y) (hq : Cond.methodLink own idx y ∈ lw_all) (hM : g_Rd G l y bytes maxL ret' k' As P v) (hP : P H) (hn : As.length = n) (hR : k' + 1 ≤ R.frames ∧ 8 + (maxL + 11) + 40 * k' ≤ R.locals) (hc : cells ≤ R.cells ∧ slots ≤ R.slots) (hst : st = As.reverse ++ rest) (hst1 : v.toList ++ rest = st1) (hw : (rest.map fun v => v.category).sum ≤ 8) (d : decode cc pc = .ok (.invokestatic idx, 3))
    (kk : W p l e R s m args below meth c H locs cells slots Q (F0 m (pc + 3) ls st1)) : W p l e R s m args below meth c H locs cells slots Q (F0 m pc ls st) := by
  subst hst
  have hcw := va_cwS (R := R) (own := own) (index := idx) (y := y) (bytes := bytes) (maxL := maxL) (mc := 0) (ms := 0) (ret := ret') (ws := ws_ y bytes maxL ret') (rm := g_rm k' 0 0) n X.1.2.2.2.2 (lw_S hq hV.1 hV.2 hY.1) rfl rfl rfl hY.2 hR
  exact g_goR (va_runS (As := As) (rest := rest) (cells := cells) (slots := slots) (locs := locs) X.1 hM hcw ⟨g_blind, fun U hU hW => ⟨rfl, va_K.moved hW.alike X.2.2.2, by rw [hU]; exact hP⟩⟩ rfl hn hl.1 rfl (lv_room hw) d hc) hst1 kk
/-- a contract's end as an answer and a fact of the heap -/
def g_Qv (v0 : Option Value) (PQ : Heap → Prop) : Option Value → Heap → Prop := fun v H => v = v0 ∧ PQ H
/-- calls of changing methods -/
theorem g_goM {v0 : Option Value} {PQ : Heap → Prop} {A1 A0 : Nat → Prop} {mc' ms' : Nat} {rest st0 st1 : List Value} (hr : va_Run p l e R s m args below meth c H locs cells slots mc' ms' (F0 m pc ls st0) rest (fun st oc t => (∃ v, oc = .returned v ∧ g_Qv v0 PQ v t.heap) ∧ va_F A1 st t) A1) (hst1 : v0.toList ++ rest = st1) (hS : va_S A0 H0 H locs) (hA : ∀ q, A1 q → A0 q)
    (kk : ∀ (H1 : Heap) (locs1 : List Loc), PQ H1 → va_S A0 H0 H1 locs1 → (H.size ≤ H1.size ∧ ∀ q : Nat, q < H.size → ¬ A1 q → H1[q]? = H[q]?) → W p l e R s m args below meth c H1 locs1 (cells + mc') (slots + ms') Q (F0 m (pc + 3) ls st1)) : W p l e R s m args below meth c H locs cells slots Q (F0 m pc ls st0) := by
  subst hst1
  intro T hT XT
  obtain ⟨v', st₀, t, T', L, h0, X', hL, e1, e2, ⟨⟨v, hv, hv0, hQ⟩, hz, hk⟩, st⟩ := hr T hT XT
  cases hv
  subst hv0
  rw [h0] at hz hk
  obtain ⟨t2, a1, b1⟩ := kk T'.heap (locs ++ L) (by rw [e1]; exact hQ)
    ⟨Nat.le_trans hS.1 (by rw [e1]; exact hz), fun q h1 h2 => by rw [e1, hk q (Nat.lt_of_lt_of_le h1 hS.1) (fun z => h2 (hA q z))]; exact hS.2.1 q h1 h2, fun q hq => by
      rcases List.mem_append.mp hq with h | h
      · exact hS.2.2 q h
      · exact hA _ (hL q h)⟩ ⟨by rw [e1]; exact hz, fun q h1 h2 => by rw [e1]; exact hk q h1 h2⟩ T' rfl X'
  exact ⟨t2, st t2 a1, b1⟩
theorem g_cMV {y : MethodName} {bytes : ByteArray} {maxL n k' mc' ms' idx b : Nat} {ret' : Option FieldType} {As rest st st1 : List Value} {P PQ : Heap → Prop} {v0 : Option Value} {A1 A0 : Nat → Prop} {lv0 : List (Nat × Value)} (X : g_X G p s m args meth c cc own nL ret) (hl : lv_has ls nL lv0) (hY : g_Y y bytes maxL ret' n) (hV : g_YV y) (hq : Cond.methodLink own idx y ∈ lw_all) (hM : g_Md G l y bytes maxL ret' k' mc' ms' (.ref b :: As) P (g_Qv v0 PQ) A1) (hr : g_rc s H y.cls b) (hP : P H) (hn : As.length = n) (hR : k' + 1 ≤ R.frames ∧ 8 + (maxL + 11) + 40 * k' ≤ R.locals) (hc : cells + mc' ≤ R.cells ∧ slots + ms' ≤ R.slots) (hst : st = As.reverse ++ .ref b :: rest) (hst1 : v0.toList ++ rest = st1) (hw : (rest.map fun v => v.category).sum ≤ 8) (d : decode cc pc = .ok (.invokevirtual idx, 3)) (hS : va_S A0 H0 H locs) (hA : ∀ q, A1 q → A0 q)
    (kk : ∀ (H1 : Heap) (locs1 : List Loc), PQ H1 → va_S A0 H0 H1 locs1 → (H.size ≤ H1.size ∧ ∀ q : Nat, q < H.size → ¬ A1 q → H1[q]? = H[q]?) → W p l e R s m args below meth c H1 locs1 (cells + mc') (slots + ms') Q (F0 m (pc + 3) ls st1)) : W p l e R s m args below meth c H locs cells slots Q (F0 m pc ls st) := by
  subst hst
  have hcw : CallW R s args own y.cls idx y bytes maxL ret' (ws_ y bytes maxL ret') (g_rm k' mc' ms') mc' ms' n := cwV n X.1.2.2.2.2 (lw_V hq hV.1 hV.2.1 hV.2.2 hY.1) rfl rfl rfl ⟨rfl, hY.2⟩ hR
  exact g_goM (va_runV (As := As) (rest := rest) (cells := cells) (slots := slots) (locs := locs) X.1 hM hcw ⟨g_blind, hr, fun U hU hW => ⟨rfl, va_K.moved hW.alike X.2.2.2, by rw [hU]; exact hP⟩⟩ rfl hn hl.1 rfl (lv_room hw) d hc) hst1 hS hA kk
theorem g_cMS {y : MethodName} {bytes : ByteArray} {maxL n k' mc' ms' idx : Nat} {ret' : Option FieldType} {As rest st st1 : List Value} {P PQ : Heap → Prop} {v0 : Option Value} {A1 A0 : Nat → Prop} {lv0 : List (Nat × Value)} (X : g_X G p s m args meth c cc own nL ret) (hl : lv_has ls nL lv0) (hY : g_Y y bytes maxL ret' n) (hV : g_YS y) (hq : Cond.methodLink own idx y ∈ lw_all) (hM : g_Md G l y bytes maxL ret' k' mc' ms' As P (g_Qv v0 PQ) A1) (hP : P H) (hn : As.length = n) (hR : k' + 1 ≤ R.frames ∧ 8 + (maxL + 11) + 40 * k' ≤ R.locals) (hc : cells + mc' ≤ R.cells ∧ slots + ms' ≤ R.slots) (hst : st = As.reverse ++ rest) (hst1 : v0.toList ++ rest = st1) (hw : (rest.map fun v => v.category).sum ≤ 8) (d : decode cc pc = .ok (.invokestatic idx, 3)) (hS : va_S A0 H0 H locs) (hA : ∀ q, A1 q → A0 q)
    (kk : ∀ (H1 : Heap) (locs1 : List Loc), PQ H1 → va_S A0 H0 H1 locs1 → (H.size ≤ H1.size ∧ ∀ q : Nat, q < H.size → ¬ A1 q → H1[q]? = H[q]?) → W p l e R s m args below meth c H1 locs1 (cells + mc') (slots + ms') Q (F0 m (pc + 3) ls st1)) : W p l e R s m args below meth c H locs cells slots Q (F0 m pc ls st) := by
  subst hst
  have hcw := va_cwS (R := R) (own := own) (index := idx) (y := y) (bytes := bytes) (maxL := maxL) (mc := mc') (ms := ms') (ret := ret') (ws := ws_ y bytes maxL ret') (rm := g_rm k' mc' ms') n X.1.2.2.2.2 (lw_S hq hV.1 hV.2 hY.1) rfl rfl rfl hY.2 hR
  exact g_goM (va_runS (As := As) (rest := rest) (cells := cells) (slots := slots) (locs := locs) X.1 hM hcw ⟨g_blind, fun U hU hW => ⟨rfl, va_K.moved hW.alike X.2.2.2, by rw [hU]; exact hP⟩⟩ rfl hn hl.1 rfl (lv_room hw) d hc) hst1 hS hA kk
end GR
