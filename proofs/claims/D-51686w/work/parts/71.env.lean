/-! WHAT STANDS ALL THROUGH A RUN beside the objects: statics, constants; contracts that lean on it -/
set_option maxRecDepth 100000
def e_byt : List (List Int32) := [[], [115, 116, 111, 114, 109], [99, 117, 116], [115, 101, 110, 100], [109, 101, 110, 100], [115, 97, 109, 101], [100, 114, 111, 112], [97, 115, 107, 115], [99, 97, 108, 109], [112, 97, 115, 115], [104, 117, 116, 115], [115, 103, 97, 114]]
def e_hsh : List Int32 := [0, 109770985, 98882, 3526536, 3347790, 3522662, 3092207, 3003674, 3045983, 3433489, 3214412, 3528069]
def e_tx (i j : Nat) : Int32 := (e_byt.getD i []).getD j 0
def e_ln (i : Nat) : Nat := (e_byt.getD i []).length
def e_Zl (G : g_G) : List (String × String × String × Value) := [("java/lang/String", "COMPACT_STRINGS", "Z", .int 1), ("java/lang/StringUTF16", "$assertionsDisabled", "Z", .int 1), ("java/lang/StringUTF16", "HI_BYTE_SHIFT", "I", .int 0), ("java/lang/StringUTF16", "LO_BYTE_SHIFT", "I", .int 8), ("java/util/ArrayList", "EMPTY_ELEMENTDATA", "[Ljava/lang/Object;", .ref (G.2 100)), ("java/util/ArrayList", "DEFAULTCAPACITY_EMPTY_ELEMENTDATA", "[Ljava/lang/Object;", .ref (G.2 101)), ("VotingHuts", "UNITS", "[I", .ref (G.2 102)), ("java/lang/Integer", "DigitOnes", "[B", .ref (G.2 103)), ("java/lang/Integer", "DigitTens", "[B", .ref (G.2 104)), ("VotingHuts$Sort", "END", "LVotingHuts$Sort;", .ref (G.2 105)), ("VotingHuts$Sort", "WORD", "LVotingHuts$Sort;", .ref (G.2 106)), ("VotingHuts$Sort", "BAD", "LVotingHuts$Sort;", .ref (G.2 107)), ("VotingHuts$Sort", "DIGITS", "LVotingHuts$Sort;", .ref (G.2 108)), ("VotingHuts$Sort", "SEMICOLON", "LVotingHuts$Sort;", .ref (G.2 109))]
def e_Rl : List (String × Nat × String × Nat) := [("VotingHutsModel", 152, "mend", 4), ("VotingHutsModel", 161, "same", 5), ("VotingHutsModel", 166, "asks", 7), ("VotingHutsModel", 171, "calm", 8), ("VotingHutsModel", 176, "drop", 6), ("VotingHutsModel", 195, "storm", 1), ("VotingHutsModel", 200, "cut", 2), ("VotingHutsModel", 202, "send", 3), ("VotingHutsModel", 207, "pass", 9), ("VotingHutsModel", 215, "huts", 10), ("VotingHuts$Parser", 24, "", 0), ("VotingHuts$Parser", 174, "storm", 1), ("VotingHuts$Parser", 179, "cut", 2), ("VotingHuts$Parser", 181, "send", 3), ("VotingHuts$Parser", 183, "mend", 4), ("VotingHuts$Parser", 185, "same", 5), ("VotingHuts$Parser", 186, "drop", 6), ("VotingHuts$Parser", 188, "asks", 7), ("VotingHuts$Parser", 190, "calm", 8), ("VotingHuts$Parser", 192, "pass", 9), ("VotingHuts$Parser", 220, "huts", 10), ("VotingHuts", 384, "sgar", 11)]
def e_Wl (G : g_G) : va_W := [(G.2 200, g_ob 13 [.ref (G.2 300), .int 0, .int 0, .int 1]), (G.2 201, g_ob 13 [.ref (G.2 301), .int 0, .int 109770985, .int 0]), (G.2 202, g_ob 13 [.ref (G.2 302), .int 0, .int 98882, .int 0]), (G.2 203, g_ob 13 [.ref (G.2 303), .int 0, .int 3526536, .int 0]), (G.2 204, g_ob 13 [.ref (G.2 304), .int 0, .int 3347790, .int 0]), (G.2 205, g_ob 13 [.ref (G.2 305), .int 0, .int 3522662, .int 0]), (G.2 206, g_ob 13 [.ref (G.2 306), .int 0, .int 3092207, .int 0]), (G.2 207, g_ob 13 [.ref (G.2 307), .int 0, .int 3003674, .int 0]), (G.2 208, g_ob 13 [.ref (G.2 308), .int 0, .int 3045983, .int 0]), (G.2 209, g_ob 13 [.ref (G.2 309), .int 0, .int 3433489, .int 0]), (G.2 210, g_ob 13 [.ref (G.2 310), .int 0, .int 3214412, .int 0]), (G.2 211, g_ob 13 [.ref (G.2 311), .int 0, .int 3528069, .int 0]), (G.2 300, g_ai G 1 0 (e_tx 0)), (G.2 301, g_ai G 1 5 (e_tx 1)), (G.2 302, g_ai G 1 3 (e_tx 2)), (G.2 303, g_ai G 1 4 (e_tx 3)), (G.2 304, g_ai G 1 4 (e_tx 4)), (G.2 305, g_ai G 1 4 (e_tx 5)), (G.2 306, g_ai G 1 4 (e_tx 6)), (G.2 307, g_ai G 1 4 (e_tx 7)), (G.2 308, g_ai G 1 4 (e_tx 8)), (G.2 309, g_ai G 1 4 (e_tx 9)), (G.2 310, g_ai G 1 4 (e_tx 10)), (G.2 311, g_ai G 1 4 (e_tx 11)), (G.2 100, g_ar G 3 0 (fun _ => none)), (G.2 101, g_ar G 3 0 (fun _ => none)), (G.2 102, g_ai G 0 10 (fun k => nI (10 ^ k))), (G.2 103, g_ai G 1 100 (fun k => nI (48 + k % 10))), (G.2 104, g_ai G 1 100 (fun k => nI (48 + k / 10)))]
def g_Ev (G : g_G) (A : Nat → Prop) (U : State) (H : Heap) : Prop :=
  ((∀ (i : Nat) (q : String × String × String × Value), (e_Zl G)[i]? = some q → va_Z q.1 q.2.1 q.2.2.1 q.2.2.2 A U H) ∧ va_Zq "jdk/internal/util/Preconditions" "SIOOBE_FORMATTER" "Ljava/util/function/BiFunction;" A U H) ∧
  (∀ (k : Nat) (q : Nat × va_E), (e_Wl G)[k]? = some q → g_at G H q.1 q.2 ∧ ¬ A q.1) ∧
  (∀ (i : Nat) (q : String × Nat × String × Nat), e_Rl[i]? = some q → vk_R q.1 q.2.1 q.2.2.1 (G.2 (200 + q.2.2.2)) U) ∧
  (G.2 100 ≠ G.2 101 ∧ ∀ i j, 5 ≤ i → i < 10 → 5 ≤ j → j < 10 → G.2 (100 + i) = G.2 (100 + j) → i = j)
theorem g_Ev.kept {G : g_G} {A : Nat → Prop} {U : State} {H H1 : Heap} (h : g_Ev G A U H) (hq : ∀ a : Nat, a < H.size → ¬ A a → H1[a]? = H[a]?) : g_Ev G A U H1 :=
  ⟨⟨fun i q hi => (h.1.1 i q hi).kept hq, h.1.2.kept hq⟩, fun k q hk => ⟨(h.2.1 k q hk).1.kept (hq _ (h.2.1 k q hk).1.lt (h.2.1 k q hk).2), (h.2.1 k q hk).2⟩, h.2.2⟩
theorem g_Ev.narrow {G : g_G} {A B : Nat → Prop} {U : State} {H : Heap} (h : g_Ev G A U H) (hAB : ∀ q, B q → A q) : g_Ev G B U H :=
  ⟨⟨fun i q hi => (h.1.1 i q hi).narrow hAB, h.1.2.narrow hAB⟩, fun k q hk => ⟨(h.2.1 k q hk).1, fun z => (h.2.1 k q hk).2 (hAB _ z)⟩, h.2.2⟩
theorem g_Ev.warm {G : g_G} {A : Nat → Prop} {s U : State} {H : Heap} (hW : s.WarmedH U.vm) (h : g_Ev G A s H) : g_Ev G A U H :=
  ⟨⟨fun i q hi => (h.1.1 i q hi).moved hW.alike, h.1.2.moved hW.alike⟩, h.2.1, fun i q hi => vk_R.warm hW (h.2.2.1 i q hi), h.2.2.2⟩
theorem g_Ev.call {G : g_G} {A : Nat → Prop} {U : State} {H : Heap} {g : JFrame} {mk : MethodId} {a : Array Value} (h : g_Ev G A U H) : g_Ev G A (U.calling g mk a) H :=
  ⟨⟨fun i q hi => (h.1.1 i q hi).moved (Vm.Alike.refl U.vm), h.1.2.moved (Vm.Alike.refl U.vm)⟩, h.2.1, fun i q hi => vk_R.same (u := U) (U := U.calling g mk a) rfl (h.2.2.1 i q hi), h.2.2.2⟩
def g_Re (G : g_G) (l : Launch) (y : MethodName) (cc : ByteArray) (nL : Nat) (ret : Option FieldType) (k : Nat) (av : List Value) (A : Nat → Prop) (P : Heap → Prop) (v : Option Value) : Prop :=
  Met l y (ws_ y cc nL ret) (g_rm k 0 0) (va_Pc av (fun U => g_K G U ∧ g_Ev G A U U.heap ∧ P U.heap)) (fun _ st oc t => oc = .returned v ∧ t.heap = st.heap) 0 0 (fun _ => False)
def g_Me (G : g_G) (l : Launch) (y : MethodName) (cc : ByteArray) (nL : Nat) (ret : Option FieldType) (k mc ms : Nat) (av : List Value) (P : Heap → Prop) (Q : Option Value → Heap → Prop) (A : Nat → Prop) : Prop :=
  Met l y (ws_ y cc nL ret) (g_rm k mc ms) (va_Pc av (fun U => g_K G U ∧ g_Ev G A U U.heap ∧ P U.heap)) (fun _ st oc t => (∃ v, oc = .returned v ∧ Q v t.heap) ∧ va_F A st t) mc ms A
theorem g_blindE {G : g_G} {av : List Value} {A : Nat → Prop} {P : Heap → Prop} : FrameBlind (va_Pc av (fun U => g_K G U ∧ g_Ev G A U U.heap ∧ P U.heap)) := by
  intro a U g mk h
  exact ⟨h.1, va_K.moved (u := U) (U := U.calling g mk a) (Vm.Alike.refl U.vm) h.2.1, h.2.2.1.call, h.2.2.2⟩
section GSE
variable {G : g_G} {l : Launch} {y : MethodName} {cc : ByteArray} {nL : Nat} {ret : Option FieldType} {k mc ms : Nat} {av : List Value} {P : Heap → Prop} {A : Nat → Prop}

theorem g_Re.ofI {ty : FieldType} {v : Int32} (hy : plainName y.cls = true) (hty : narrow ty (.int v) = .int v) 
    (body : ∀ (p : Program) (e : Env) (s : State) (m : MethodId) (args : Array Value) (below : List Frame) (meth : Method) (c : Code) (ls : Array Slot) (Q : State → Prop), g_X G p s m args meth c cc y.cls nL (some ty) → g_Ev G A s s.heap → P s.heap → lv_has ls nL (lv_args 0 av) →
      (∀ (pc : Nat) (ls' : Array Slot) (r : Int32), decode cc pc = .ok (.ireturn, 1) → r = v → W p l e (g_rm k 0 0) s m args below meth c s.heap [] 0 0 Q (F0 m pc ls' [.int r])) →
      W p l e (g_rm k 0 0) s m args below meth c s.heap [] 0 0 Q (F0 m 0 ls [])) (hL : (lg_sl av).length ≤ nL := by exact Nat.le_of_ble_eq_true rfl) : g_Re G l y cc nL (some ty) k av A P (some (.int v)) := by
  refine Met.ofW (cc := cc) (maxL := nL) (ret := (some ty)) hy rfl ?_
  intro p e s m args below meth c s₁ B hml hv
  obtain ⟨rfl, hK, hE, hP⟩ := hv
  have hts := atoms_spec (ws := ws_ y cc nL (some ty)) B.pre
  have hX : g_X G p s m av.toArray meth c cc y.cls nL (some ty) := ⟨⟨B.exec, B.bytes, hml, findClass_of_methodNamed B.named, fun w h => hts w (List.mem_cons_of_mem _ h)⟩, B.returns, B.notSynchronized, hK⟩
  rw [lg_entry_eq]
  refine body p e s m av.toArray below meth c _ _ hX hE hP (lv_entry av hL) fun pc ls' r d hr => ?_
  subst hr
  exact g_retI hX hty (fun t ht _ => ⟨rfl, ht⟩) (fun q h => by cases h) d

theorem g_Re.ofA {ty : FieldType} {v : Value} (hy : plainName y.cls = true) (hty : ((∃ n, ty = .object n) ∨ ∃ t, ty = .array t)) (hvr : v = .null ∨ ∃ a, v = .ref a) 
    (body : ∀ (p : Program) (e : Env) (s : State) (m : MethodId) (args : Array Value) (below : List Frame) (meth : Method) (c : Code) (ls : Array Slot) (Q : State → Prop), g_X G p s m args meth c cc y.cls nL (some ty) → g_Ev G A s s.heap → P s.heap → lv_has ls nL (lv_args 0 av) →
      (∀ (pc : Nat) (ls' : Array Slot) (r : Value), decode cc pc = .ok (.areturn, 1) → r = v → W p l e (g_rm k 0 0) s m args below meth c s.heap [] 0 0 Q (F0 m pc ls' [r])) →
      W p l e (g_rm k 0 0) s m args below meth c s.heap [] 0 0 Q (F0 m 0 ls [])) (hL : (lg_sl av).length ≤ nL := by exact Nat.le_of_ble_eq_true rfl) : g_Re G l y cc nL (some ty) k av A P (some v) := by
  refine Met.ofW (cc := cc) (maxL := nL) (ret := (some ty)) hy rfl ?_
  intro p e s m args below meth c s₁ B hml hv
  obtain ⟨rfl, hK, hE, hP⟩ := hv
  have hts := atoms_spec (ws := ws_ y cc nL (some ty)) B.pre
  have hX : g_X G p s m av.toArray meth c cc y.cls nL (some ty) := ⟨⟨B.exec, B.bytes, hml, findClass_of_methodNamed B.named, fun w h => hts w (List.mem_cons_of_mem _ h)⟩, B.returns, B.notSynchronized, hK⟩
  rw [lg_entry_eq]
  refine body p e s m av.toArray below meth c _ _ hX hE hP (lv_entry av hL) fun pc ls' r d hr => ?_
  subst hr
  exact W.aret hX.1.1 hX.1.2.1 hX.2.1 hty hvr (fun t ht _ => ⟨rfl, ht⟩) (fun q h => by cases h) d hX.2.2.1

theorem g_Re.ofV (hy : plainName y.cls = true) 
    (body : ∀ (p : Program) (e : Env) (s : State) (m : MethodId) (args : Array Value) (below : List Frame) (meth : Method) (c : Code) (ls : Array Slot) (Q : State → Prop), g_X G p s m args meth c cc y.cls nL none → g_Ev G A s s.heap → P s.heap → lv_has ls nL (lv_args 0 av) →
      (∀ (pc : Nat) (ls' : Array Slot), decode cc pc = .ok (.return_, 1) → W p l e (g_rm k 0 0) s m args below meth c s.heap [] 0 0 Q (F0 m pc ls' [])) →
      W p l e (g_rm k 0 0) s m args below meth c s.heap [] 0 0 Q (F0 m 0 ls [])) (hL : (lg_sl av).length ≤ nL := by exact Nat.le_of_ble_eq_true rfl) : g_Re G l y cc nL none k av A P none := by
  refine Met.ofW (cc := cc) (maxL := nL) (ret := none) hy rfl ?_
  intro p e s m args below meth c s₁ B hml hv
  obtain ⟨rfl, hK, hE, hP⟩ := hv
  have hts := atoms_spec (ws := ws_ y cc nL none) B.pre
  have hX : g_X G p s m av.toArray meth c cc y.cls nL none := ⟨⟨B.exec, B.bytes, hml, findClass_of_methodNamed B.named, fun w h => hts w (List.mem_cons_of_mem _ h)⟩, B.returns, B.notSynchronized, hK⟩
  rw [lg_entry_eq]
  refine body p e s m av.toArray below meth c _ _ hX hE hP (lv_entry av hL) fun pc ls' d => ?_
  exact W.vret hX.1.1 hX.1.2.1 hX.2.1 (fun t ht _ => ⟨rfl, ht⟩) (fun q h => by cases h) d hX.2.2.1

theorem g_Me.ofI {ty : FieldType} {Q0 : Option Value → Heap → Prop} (hy : plainName y.cls = true) (hty : ∀ (r : Int32) (H : Heap), Q0 (some (.int r)) H → narrow ty (.int r) = .int r) 
    (body : ∀ (p : Program) (e : Env) (s : State) (m : MethodId) (args : Array Value) (below : List Frame) (meth : Method) (c : Code) (ls : Array Slot) (Q : State → Prop), g_X G p s m args meth c cc y.cls nL (some ty) → g_Ev G A s s.heap → P s.heap → lv_has ls nL (lv_args 0 av) → va_S A s.heap s.heap [] →
      (∀ (H : Heap) (locs : List Loc) (cells slots pc : Nat) (ls' : Array Slot) (r : Int32), decode cc pc = .ok (.ireturn, 1) → va_S A s.heap H locs → cells ≤ mc → slots ≤ ms → Q0 (some (.int r)) H → W p l e (g_rm k mc ms) s m args below meth c H locs cells slots Q (F0 m pc ls' [.int r])) →
      W p l e (g_rm k mc ms) s m args below meth c s.heap [] 0 0 Q (F0 m 0 ls [])) (hL : (lg_sl av).length ≤ nL := by exact Nat.le_of_ble_eq_true rfl) : g_Me G l y cc nL (some ty) k mc ms av P Q0 A := by
  refine Met.ofW (cc := cc) (maxL := nL) (ret := (some ty)) hy rfl ?_
  intro p e s m args below meth c s₁ B hml hv
  obtain ⟨rfl, hK, hE, hP⟩ := hv
  have hts := atoms_spec (ws := ws_ y cc nL (some ty)) B.pre
  have hX : g_X G p s m av.toArray meth c cc y.cls nL (some ty) := ⟨⟨B.exec, B.bytes, hml, findClass_of_methodNamed B.named, fun w h => hts w (List.mem_cons_of_mem _ h)⟩, B.returns, B.notSynchronized, hK⟩
  rw [lg_entry_eq]
  refine body p e s m av.toArray below meth c _ _ hX hE hP (lv_entry av hL) va_S.rf fun H locs cells slots pc ls' r d hS hc hs hq => ?_
  refine W.widen (k := mc) (n := ms) hc hs ?_
  exact g_retI hX (hty r H hq) (fun t ht _ => ⟨⟨_, rfl, by rw [ht]; exact hq⟩, hS.F ht⟩) hS.2.2 d

theorem g_Me.ofA {ty : FieldType} {Q0 : Option Value → Heap → Prop} (hy : plainName y.cls = true) (hty : ((∃ n, ty = .object n) ∨ ∃ t, ty = .array t)) 
    (body : ∀ (p : Program) (e : Env) (s : State) (m : MethodId) (args : Array Value) (below : List Frame) (meth : Method) (c : Code) (ls : Array Slot) (Q : State → Prop), g_X G p s m args meth c cc y.cls nL (some ty) → g_Ev G A s s.heap → P s.heap → lv_has ls nL (lv_args 0 av) → va_S A s.heap s.heap [] →
      (∀ (H : Heap) (locs : List Loc) (cells slots pc : Nat) (ls' : Array Slot) (r : Value), decode cc pc = .ok (.areturn, 1) → va_S A s.heap H locs → cells ≤ mc → slots ≤ ms → (r = .null ∨ ∃ a, r = .ref a) → Q0 (some r) H → W p l e (g_rm k mc ms) s m args below meth c H locs cells slots Q (F0 m pc ls' [r])) →
      W p l e (g_rm k mc ms) s m args below meth c s.heap [] 0 0 Q (F0 m 0 ls [])) (hL : (lg_sl av).length ≤ nL := by exact Nat.le_of_ble_eq_true rfl) : g_Me G l y cc nL (some ty) k mc ms av P Q0 A := by
  refine Met.ofW (cc := cc) (maxL := nL) (ret := (some ty)) hy rfl ?_
  intro p e s m args below meth c s₁ B hml hv
  obtain ⟨rfl, hK, hE, hP⟩ := hv
  have hts := atoms_spec (ws := ws_ y cc nL (some ty)) B.pre
  have hX : g_X G p s m av.toArray meth c cc y.cls nL (some ty) := ⟨⟨B.exec, B.bytes, hml, findClass_of_methodNamed B.named, fun w h => hts w (List.mem_cons_of_mem _ h)⟩, B.returns, B.notSynchronized, hK⟩
  rw [lg_entry_eq]
  refine body p e s m av.toArray below meth c _ _ hX hE hP (lv_entry av hL) va_S.rf fun H locs cells slots pc ls' r d hS hc hs hr hq => ?_
  refine W.widen (k := mc) (n := ms) hc hs ?_
  exact W.aret hX.1.1 hX.1.2.1 hX.2.1 hty hr (fun t ht _ => ⟨⟨_, rfl, by rw [ht]; exact hq⟩, hS.F ht⟩) hS.2.2 d hX.2.2.1

theorem g_Me.ofV {Q0 : Option Value → Heap → Prop} (hy : plainName y.cls = true) 
    (body : ∀ (p : Program) (e : Env) (s : State) (m : MethodId) (args : Array Value) (below : List Frame) (meth : Method) (c : Code) (ls : Array Slot) (Q : State → Prop), g_X G p s m args meth c cc y.cls nL none → g_Ev G A s s.heap → P s.heap → lv_has ls nL (lv_args 0 av) → va_S A s.heap s.heap [] →
      (∀ (H : Heap) (locs : List Loc) (cells slots pc : Nat) (ls' : Array Slot), decode cc pc = .ok (.return_, 1) → va_S A s.heap H locs → cells ≤ mc → slots ≤ ms → Q0 none H → W p l e (g_rm k mc ms) s m args below meth c H locs cells slots Q (F0 m pc ls' [])) →
      W p l e (g_rm k mc ms) s m args below meth c s.heap [] 0 0 Q (F0 m 0 ls [])) (hL : (lg_sl av).length ≤ nL := by exact Nat.le_of_ble_eq_true rfl) : g_Me G l y cc nL none k mc ms av P Q0 A := by
  refine Met.ofW (cc := cc) (maxL := nL) (ret := none) hy rfl ?_
  intro p e s m args below meth c s₁ B hml hv
  obtain ⟨rfl, hK, hE, hP⟩ := hv
  have hts := atoms_spec (ws := ws_ y cc nL none) B.pre
  have hX : g_X G p s m av.toArray meth c cc y.cls nL none := ⟨⟨B.exec, B.bytes, hml, findClass_of_methodNamed B.named, fun w h => hts w (List.mem_cons_of_mem _ h)⟩, B.returns, B.notSynchronized, hK⟩
  rw [lg_entry_eq]
  refine body p e s m av.toArray below meth c _ _ hX hE hP (lv_entry av hL) va_S.rf fun H locs cells slots pc ls' d hS hc hs hq => ?_
  refine W.widen (k := mc) (n := ms) hc hs ?_
  exact W.vret hX.1.1 hX.1.2.1 hX.2.1 (fun t ht _ => ⟨⟨_, rfl, by rw [ht]; exact hq⟩, hS.F ht⟩) hS.2.2 d hX.2.2.1

end GSE
section GRE
variable {G : g_G} {p : Program} {l : Launch} {e : Env} {R : Room} {s : State} {m : MethodId} {args : Array Value} {below : List Frame} {meth : Method} {c : Code} {H : Heap} {locs : List Loc} {cells slots : Nat} {Q : State → Prop}
variable {cc : ByteArray} {pc : Nat} {ls : Array Slot} {rest : List Value} {own : String} {nL : Nat} {ret : Option FieldType} {a : Nat} {A A0 A1 : Nat → Prop}
/-- a static that stands -/
theorem g_gst (X : g_X G p s m args meth c cc own nL ret) (hE : g_Ev G A s s.heap) (hS : va_S A s.heap H locs) (i : Nat) {C n d ref : String} {v : Value} (hi : (e_Zl G)[i]? = some (C, n, d, v)) {idx : Nat} (hq : Cond.fieldLink own idx ref n d ∈ lw_all) (hsame : ∀ x, s.fieldFound? C n d = some x → s.fieldFound? ref n d = some x) (dd : decode cc pc = .ok (.getstatic idx, 3))
    (kk : W p l e R s m args below meth c H locs cells slots Q (F0 m (pc + 3) ls (v :: rest))) : W p l e R s m args below meth c H locs cells slots Q (F0 m pc ls rest) :=
  va_gets X.1.1 X.1.2.1 (hE.1.1 i _ hi) hS X.1.2.2.2.1 (X.1.2.2.2.2 _ hq) hsame dd kk
/-- a text constant -/
theorem g_ldS (X : g_X G p s m args meth c cc own nL ret) (hE : g_Ev G A s s.heap) (i : Nat) {idx k : Nat} {tx : String} (hi : e_Rl[i]? = some (own, idx, tx, k)) (dd : decode cc pc = .ok (.ldc idx, 2))
    (kk : W p l e R s m args below meth c H locs cells slots Q (F0 m (pc + 2) ls (.ref (G.2 (200 + k)) :: rest))) : W p l e R s m args below meth c H locs cells slots Q (F0 m pc ls rest) :=
  va_ldcS X.1.1 X.1.2.1 X.1.2.2.2.1 (hE.2.2.1 i _ hi) dd kk
theorem g_Ev.for {G : g_G} {A A1 : Nat → Prop} {s U : State} {H : Heap} {locs : List Loc} (hE : g_Ev G A s s.heap) (hS : va_S A s.heap H locs) (hA : ∀ q, A1 q → A q) (hU : U.heap = H) (hW : s.WarmedH U.vm) : g_Ev G A1 U U.heap := by
  rw [hU]
  exact ((hE.kept hS.2.1).narrow hA).warm hW
theorem va_S.id {A : Nat → Prop} {H : Heap} : va_S A H H [] := va_S.rf

/-- calls whose end is any fact -/
theorem g_goQ {Q1 : Option Value → Heap → Prop} {H0 : Heap} {mc' ms' : Nat} {rest st0 : List Value} (hr : va_Run p l e R s m args below meth c H locs cells slots mc' ms' (F0 m pc ls st0) rest (fun st oc t => (∃ v, oc = .returned v ∧ Q1 v t.heap) ∧ va_F A1 st t) A1) (hS : va_S A0 H0 H locs) (hA : ∀ q, A1 q → A0 q)
    (kk : ∀ (v : Option Value) (H1 : Heap) (locs1 : List Loc), Q1 v H1 → va_S A0 H0 H1 locs1 → (H.size ≤ H1.size ∧ ∀ q : Nat, q < H.size → ¬ A1 q → H1[q]? = H[q]?) → W p l e R s m args below meth c H1 locs1 (cells + mc') (slots + ms') Q (F0 m (pc + 3) ls (v.toList ++ rest))) : W p l e R s m args below meth c H locs cells slots Q (F0 m pc ls st0) := by
  intro T hT XT
  obtain ⟨v', st₀, t, T', L, h0, X', hL, e1, e2, ⟨⟨v, hv, hQ⟩, hz, hk⟩, st⟩ := hr T hT XT
  cases hv
  rw [h0] at hz hk
  obtain ⟨t2, a1, b1⟩ := kk _ T'.heap (locs ++ L) (by rw [e1]; exact hQ)
    ⟨Nat.le_trans hS.1 (by rw [e1]; exact hz), fun q h1 h2 => by rw [e1, hk q (Nat.lt_of_lt_of_le h1 hS.1) (fun z => h2 (hA q z))]; exact hS.2.1 q h1 h2, fun q hq => by
      rcases List.mem_append.mp hq with h | h
      · exact hS.2.2 q h
      · exact hA _ (hL q h)⟩ ⟨by rw [e1]; exact hz, fun q h1 h2 => by rw [e1]; exact hk q h1 h2⟩ T' rfl X'
  exact ⟨t2, st t2 a1, b1⟩
theorem g_eRV {y : MethodName} {bytes : ByteArray} {maxL n k' idx b : Nat} {ret' : Option FieldType} {As rest st st1 : List Value} {P : Heap → Prop} {lv0 : List (Nat × Value)} (X : g_X G p s m args meth c cc own nL ret) (hE : g_Ev G A s s.heap) (hS : va_S A s.heap H locs) (hl : lv_has ls nL lv0) (hY : g_Y y bytes maxL ret' n) (hV : g_YV y) (hq : Cond.methodLink own idx y ∈ lw_all) {v : Option Value} (hM : g_Re G l y bytes maxL ret' k' (.ref b :: As) A P v) (hr : g_rc s H y.cls b) (hP : P H) (hn : As.length = n) (hR : k' + 1 ≤ R.frames ∧ 8 + (maxL + 11) + 40 * k' ≤ R.locals) (hc : cells ≤ R.cells ∧ slots ≤ R.slots) (hst : st = As.reverse ++ .ref b :: rest) (hst1 : v.toList ++ rest = st1) (hw : (rest.map fun v => v.category).sum ≤ 8) (d : decode cc pc = .ok (.invokevirtual idx, 3))
    (kk : W p l e R s m args below meth c H locs cells slots Q (F0 m (pc + 3) ls st1)) : W p l e R s m args below meth c H locs cells slots Q (F0 m pc ls st) := by
  subst hst
  exact g_goR (va_runV (As := As) (rest := rest) (cells := cells) (slots := slots) (locs := locs) X.1 hM (cwV n X.1.2.2.2.2 (lw_V hq hV.1 hV.2.1 hV.2.2 hY.1) rfl rfl rfl ⟨rfl, hY.2⟩ hR) ⟨g_blindE, hr, fun U hU hW => ⟨rfl, va_K.moved hW.alike X.2.2.2, hE.for hS (fun _ h => h) hU hW, by rw [hU]; exact hP⟩⟩ rfl hn hl.1 rfl (lv_room hw) d hc) hst1 kk
theorem g_eMV {y : MethodName} {bytes : ByteArray} {maxL n k' mc' ms' idx b : Nat} {ret' : Option FieldType} {As rest st st1 : List Value} {P : Heap → Prop} {lv0 : List (Nat × Value)} (X : g_X G p s m args meth c cc own nL ret) (hE : g_Ev G A s s.heap) (hS : va_S A s.heap H locs) (hl : lv_has ls nL lv0) (hY : g_Y y bytes maxL ret' n) (hV : g_YV y) (hq : Cond.methodLink own idx y ∈ lw_all) {v0 : Option Value} {PQ : Heap → Prop} (hM : g_Me G l y bytes maxL ret' k' mc' ms' (.ref b :: As) P (g_Qv v0 PQ) A1) (hr : g_rc s H y.cls b) (hP : P H) (hn : As.length = n) (hR : k' + 1 ≤ R.frames ∧ 8 + (maxL + 11) + 40 * k' ≤ R.locals) (hc : cells + mc' ≤ R.cells ∧ slots + ms' ≤ R.slots) (hst : st = As.reverse ++ .ref b :: rest) (hst1 : v0.toList ++ rest = st1) (hw : (rest.map fun v => v.category).sum ≤ 8) (d : decode cc pc = .ok (.invokevirtual idx, 3)) (hA : ∀ q, A1 q → A q)
    (kk : ∀ (H1 : Heap) (locs1 : List Loc), PQ H1 → va_S A s.heap H1 locs1 → (H.size ≤ H1.size ∧ ∀ q : Nat, q < H.size → ¬ A1 q → H1[q]? = H[q]?) → W p l e R s m args below meth c H1 locs1 (cells + mc') (slots + ms') Q (F0 m (pc + 3) ls st1)) : W p l e R s m args below meth c H locs cells slots Q (F0 m pc ls st) := by
  subst hst
  exact g_goM (va_runV (As := As) (rest := rest) (cells := cells) (slots := slots) (locs := locs) X.1 hM (cwV n X.1.2.2.2.2 (lw_V hq hV.1 hV.2.1 hV.2.2 hY.1) rfl rfl rfl ⟨rfl, hY.2⟩ hR) ⟨g_blindE, hr, fun U hU hW => ⟨rfl, va_K.moved hW.alike X.2.2.2, hE.for hS hA hU hW, by rw [hU]; exact hP⟩⟩ rfl hn hl.1 rfl (lv_room hw) d hc) hst1 hS hA kk
theorem g_eQV {y : MethodName} {bytes : ByteArray} {maxL n k' mc' ms' idx b : Nat} {ret' : Option FieldType} {As rest st : List Value} {P : Heap → Prop} {lv0 : List (Nat × Value)} (X : g_X G p s m args meth c cc own nL ret) (hE : g_Ev G A s s.heap) (hS : va_S A s.heap H locs) (hl : lv_has ls nL lv0) (hY : g_Y y bytes maxL ret' n) (hV : g_YV y) (hq : Cond.methodLink own idx y ∈ lw_all) {Q1 : Option Value → Heap → Prop} (hM : g_Me G l y bytes maxL ret' k' mc' ms' (.ref b :: As) P Q1 A1) (hr : g_rc s H y.cls b) (hP : P H) (hn : As.length = n) (hR : k' + 1 ≤ R.frames ∧ 8 + (maxL + 11) + 40 * k' ≤ R.locals) (hc : cells + mc' ≤ R.cells ∧ slots + ms' ≤ R.slots) (hst : st = As.reverse ++ .ref b :: rest) (hw : (rest.map fun v => v.category).sum ≤ 8) (d : decode cc pc = .ok (.invokevirtual idx, 3)) (hA : ∀ q, A1 q → A q)
    (kk : ∀ (v : Option Value) (H1 : Heap) (locs1 : List Loc), Q1 v H1 → va_S A s.heap H1 locs1 → (H.size ≤ H1.size ∧ ∀ q : Nat, q < H.size → ¬ A1 q → H1[q]? = H[q]?) → W p l e R s m args below meth c H1 locs1 (cells + mc') (slots + ms') Q (F0 m (pc + 3) ls (v.toList ++ rest))) : W p l e R s m args below meth c H locs cells slots Q (F0 m pc ls st) := by
  subst hst
  exact g_goQ (va_runV (As := As) (rest := rest) (cells := cells) (slots := slots) (locs := locs) X.1 hM (cwV n X.1.2.2.2.2 (lw_V hq hV.1 hV.2.1 hV.2.2 hY.1) rfl rfl rfl ⟨rfl, hY.2⟩ hR) ⟨g_blindE, hr, fun U hU hW => ⟨rfl, va_K.moved hW.alike X.2.2.2, hE.for hS hA hU hW, by rw [hU]; exact hP⟩⟩ rfl hn hl.1 rfl (lv_room hw) d hc) hS hA kk
theorem g_eRS {y : MethodName} {bytes : ByteArray} {maxL n k' idx : Nat} {ret' : Option FieldType} {As rest st st1 : List Value} {P : Heap → Prop} {lv0 : List (Nat × Value)} (X : g_X G p s m args meth c cc own nL ret) (hE : g_Ev G A s s.heap) (hS : va_S A s.heap H locs) (hl : lv_has ls nL lv0) (hY : g_Y y bytes maxL ret' n) (hV : g_YS y) (hq : Cond.methodLink own idx y ∈ lw_all) {v : Option Value} (hM : g_Re G l y bytes maxL ret' k' As A P v) (hP : P H) (hn : As.length = n) (hR : k' + 1 ≤ R.frames ∧ 8 + (maxL + 11) + 40 * k' ≤ R.locals) (hc : cells ≤ R.cells ∧ slots ≤ R.slots) (hst : st = As.reverse ++ rest) (hst1 : v.toList ++ rest = st1) (hw : (rest.map fun v => v.category).sum ≤ 8) (d : decode cc pc = .ok (.invokestatic idx, 3))
    (kk : W p l e R s m args below meth c H locs cells slots Q (F0 m (pc + 3) ls st1)) : W p l e R s m args below meth c H locs cells slots Q (F0 m pc ls st) := by
  subst hst
  exact g_goR (va_runS (As := As) (rest := rest) (cells := cells) (slots := slots) (locs := locs) X.1 hM (va_cwS n X.1.2.2.2.2 (lw_S hq hV.1 hV.2 hY.1) rfl rfl rfl hY.2 hR) ⟨g_blindE, fun U hU hW => ⟨rfl, va_K.moved hW.alike X.2.2.2, hE.for hS (fun _ h => h) hU hW, by rw [hU]; exact hP⟩⟩ rfl hn hl.1 rfl (lv_room hw) d hc) hst1 kk
theorem g_eMS {y : MethodName} {bytes : ByteArray} {maxL n k' mc' ms' idx : Nat} {ret' : Option FieldType} {As rest st st1 : List Value} {P : Heap → Prop} {lv0 : List (Nat × Value)} (X : g_X G p s m args meth c cc own nL ret) (hE : g_Ev G A s s.heap) (hS : va_S A s.heap H locs) (hl : lv_has ls nL lv0) (hY : g_Y y bytes maxL ret' n) (hV : g_YS y) (hq : Cond.methodLink own idx y ∈ lw_all) {v0 : Option Value} {PQ : Heap → Prop} (hM : g_Me G l y bytes maxL ret' k' mc' ms' As P (g_Qv v0 PQ) A1) (hP : P H) (hn : As.length = n) (hR : k' + 1 ≤ R.frames ∧ 8 + (maxL + 11) + 40 * k' ≤ R.locals) (hc : cells + mc' ≤ R.cells ∧ slots + ms' ≤ R.slots) (hst : st = As.reverse ++ rest) (hst1 : v0.toList ++ rest = st1) (hw : (rest.map fun v => v.category).sum ≤ 8) (d : decode cc pc = .ok (.invokestatic idx, 3)) (hA : ∀ q, A1 q → A q)
    (kk : ∀ (H1 : Heap) (locs1 : List Loc), PQ H1 → va_S A s.heap H1 locs1 → (H.size ≤ H1.size ∧ ∀ q : Nat, q < H.size → ¬ A1 q → H1[q]? = H[q]?) → W p l e R s m args below meth c H1 locs1 (cells + mc') (slots + ms') Q (F0 m (pc + 3) ls st1)) : W p l e R s m args below meth c H locs cells slots Q (F0 m pc ls st) := by
  subst hst
  exact g_goM (va_runS (As := As) (rest := rest) (cells := cells) (slots := slots) (locs := locs) X.1 hM (va_cwS n X.1.2.2.2.2 (lw_S hq hV.1 hV.2 hY.1) rfl rfl rfl hY.2 hR) ⟨g_blindE, fun U hU hW => ⟨rfl, va_K.moved hW.alike X.2.2.2, hE.for hS hA hU hW, by rw [hU]; exact hP⟩⟩ rfl hn hl.1 rfl (lv_room hw) d hc) hst1 hS hA kk
theorem g_eQS {y : MethodName} {bytes : ByteArray} {maxL n k' mc' ms' idx : Nat} {ret' : Option FieldType} {As rest st : List Value} {P : Heap → Prop} {lv0 : List (Nat × Value)} (X : g_X G p s m args meth c cc own nL ret) (hE : g_Ev G A s s.heap) (hS : va_S A s.heap H locs) (hl : lv_has ls nL lv0) (hY : g_Y y bytes maxL ret' n) (hV : g_YS y) (hq : Cond.methodLink own idx y ∈ lw_all) {Q1 : Option Value → Heap → Prop} (hM : g_Me G l y bytes maxL ret' k' mc' ms' As P Q1 A1) (hP : P H) (hn : As.length = n) (hR : k' + 1 ≤ R.frames ∧ 8 + (maxL + 11) + 40 * k' ≤ R.locals) (hc : cells + mc' ≤ R.cells ∧ slots + ms' ≤ R.slots) (hst : st = As.reverse ++ rest) (hw : (rest.map fun v => v.category).sum ≤ 8) (d : decode cc pc = .ok (.invokestatic idx, 3)) (hA : ∀ q, A1 q → A q)
    (kk : ∀ (v : Option Value) (H1 : Heap) (locs1 : List Loc), Q1 v H1 → va_S A s.heap H1 locs1 → (H.size ≤ H1.size ∧ ∀ q : Nat, q < H.size → ¬ A1 q → H1[q]? = H[q]?) → W p l e R s m args below meth c H1 locs1 (cells + mc') (slots + ms') Q (F0 m (pc + 3) ls (v.toList ++ rest))) : W p l e R s m args below meth c H locs cells slots Q (F0 m pc ls st) := by
  subst hst
  exact g_goQ (va_runS (As := As) (rest := rest) (cells := cells) (slots := slots) (locs := locs) X.1 hM (va_cwS n X.1.2.2.2.2 (lw_S hq hV.1 hV.2 hY.1) rfl rfl rfl hY.2 hR) ⟨g_blindE, fun U hU hW => ⟨rfl, va_K.moved hW.alike X.2.2.2, hE.for hS hA hU hW, by rw [hU]; exact hP⟩⟩ rfl hn hl.1 rfl (lv_room hw) d hc) hS hA kk
theorem g_eMI {y : MethodName} {bytes : ByteArray} {maxL n k' mc' ms' idx b : Nat} {ret' : Option FieldType} {As rest st st1 : List Value} {P : Heap → Prop} {lv0 : List (Nat × Value)} (X : g_X G p s m args meth c cc own nL ret) (hE : g_Ev G A s s.heap) (hS : va_S A s.heap H locs) (hl : lv_has ls nL lv0) (hY : g_Y y bytes maxL none n) (hV : g_YI y) (hq : Cond.methodLink own idx y ∈ lw_all) {v0 : Option Value} {PQ : Heap → Prop} (hM : g_Me G l y bytes maxL none k' mc' ms' (.ref b :: As) P (g_Qv v0 PQ) A1) (hP : P H) (hn : As.length = n) (hR : k' + 1 ≤ R.frames ∧ 8 + (maxL + 11) + 40 * k' ≤ R.locals) (hc : cells + mc' ≤ R.cells ∧ slots + ms' ≤ R.slots) (hst : st = As.reverse ++ .ref b :: rest) (hst1 : v0.toList ++ rest = st1) (hw : (rest.map fun v => v.category).sum ≤ 8) (d : decode cc pc = .ok (.invokespecial idx, 3)) (hA : ∀ q, A1 q → A q)
    (kk : ∀ (H1 : Heap) (locs1 : List Loc), PQ H1 → va_S A s.heap H1 locs1 → (H.size ≤ H1.size ∧ ∀ q : Nat, q < H.size → ¬ A1 q → H1[q]? = H[q]?) → W p l e R s m args below meth c H1 locs1 (cells + mc') (slots + ms') Q (F0 m (pc + 3) ls st1)) : W p l e R s m args below meth c H locs cells slots Q (F0 m pc ls st) := by
  subst hst
  exact g_goM (va_runI (As := As) (rest := rest) (cells := cells) (slots := slots) (locs := locs) X.1 hM (cwI n X.1.2.2.2.2 (lw_meth hY.1) rfl rfl rfl (X.1.2.2.2.2 _ hV.2.1) (X.1.2.2.2.2 _ hq) (X.1.2.2.2.2 _ hV.1) hV.2.2 hY.2 hR) ⟨g_blindE, fun U hU hW => ⟨rfl, va_K.moved hW.alike X.2.2.2, hE.for hS hA hU hW, by rw [hU]; exact hP⟩⟩ rfl hn hl.1 rfl (lv_room hw) d hc) hst1 hS hA kk
theorem g_eQI {y : MethodName} {bytes : ByteArray} {maxL n k' mc' ms' idx b : Nat} {ret' : Option FieldType} {As rest st : List Value} {P : Heap → Prop} {lv0 : List (Nat × Value)} (X : g_X G p s m args meth c cc own nL ret) (hE : g_Ev G A s s.heap) (hS : va_S A s.heap H locs) (hl : lv_has ls nL lv0) (hY : g_Y y bytes maxL none n) (hV : g_YI y) (hq : Cond.methodLink own idx y ∈ lw_all) {Q1 : Option Value → Heap → Prop} (hM : g_Me G l y bytes maxL none k' mc' ms' (.ref b :: As) P Q1 A1) (hP : P H) (hn : As.length = n) (hR : k' + 1 ≤ R.frames ∧ 8 + (maxL + 11) + 40 * k' ≤ R.locals) (hc : cells + mc' ≤ R.cells ∧ slots + ms' ≤ R.slots) (hst : st = As.reverse ++ .ref b :: rest) (hw : (rest.map fun v => v.category).sum ≤ 8) (d : decode cc pc = .ok (.invokespecial idx, 3)) (hA : ∀ q, A1 q → A q)
    (kk : ∀ (v : Option Value) (H1 : Heap) (locs1 : List Loc), Q1 v H1 → va_S A s.heap H1 locs1 → (H.size ≤ H1.size ∧ ∀ q : Nat, q < H.size → ¬ A1 q → H1[q]? = H[q]?) → W p l e R s m args below meth c H1 locs1 (cells + mc') (slots + ms') Q (F0 m (pc + 3) ls (v.toList ++ rest))) : W p l e R s m args below meth c H locs cells slots Q (F0 m pc ls st) := by
  subst hst
  exact g_goQ (va_runI (As := As) (rest := rest) (cells := cells) (slots := slots) (locs := locs) X.1 hM (cwI n X.1.2.2.2.2 (lw_meth hY.1) rfl rfl rfl (X.1.2.2.2.2 _ hV.2.1) (X.1.2.2.2.2 _ hq) (X.1.2.2.2.2 _ hV.1) hV.2.2 hY.2 hR) ⟨g_blindE, fun U hU hW => ⟨rfl, va_K.moved hW.alike X.2.2.2, hE.for hS hA hU hW, by rw [hU]; exact hP⟩⟩ rfl hn hl.1 rfl (lv_room hw) d hc) hS hA kk
end GRE
