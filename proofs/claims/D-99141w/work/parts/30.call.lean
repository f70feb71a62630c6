/-! ===== calls: what a call asks of the tables, kind by kind ===== -/
/-- a method: its name, code, locals, answer, handlers -/
abbrev MT : Type := MethodName × ByteArray × Nat × Option FieldType × List (Nat × Nat × Nat × Nat)
def mtC (t : MT) : Jvm.Cond := match t.2.2.2.2 with
  | [] => .code t.1 t.2.1 t.2.2.1 t.2.2.2.1
  | hh => .codeWith t.1 t.2.1 t.2.2.1 t.2.2.2.1 hh
def mtW (t : MT) : List Jvm.Cond := mtC t :: lw_all
def mtR (d mc ms : Nat) : Room := { frames := d + 1, cells := mc, slots := ms, locals := 200 * d + 100 }
def RunL (len : Nat) (p : Program) (l : Launch) (e : Env) (R : Room) (s : State) (m : MethodId) (args : Array Value) (below : List Frame) (meth : Method) (c : Code) (H : Heap) (locs : List Jvm.Loc) (cells slots mc ms : Nat) (g : JFrame) (rest : List Value) (Qa : State → Outcome → State → Prop) (XC : Addr → String → State → State → Prop) (free : Addr → Prop) : Prop :=
  ∀ T : State, T.heap = H → Stand p l e R s m args below meth c T locs cells slots →
    (∃ (v : Option Value) (st₀ t T' : State) (L : List Jvm.Loc), st₀.heap = H ∧ Stand p l e R s m args below meth c T' (locs ++ L) (cells + mc) (slots + ms) ∧ (∀ q ∈ L, free q.base) ∧ T'.heap = t.heap ∧ T'.vm = t.vm ∧ Qa st₀ (.returned v) t ∧
      Goes p e below T g T' { g with pc := g.pc + len, stack := v.toList ++ rest }) ∨
    (∃ (q : Addr) (st₀ t T' : State) (L : List Jvm.Loc) (E : String) (ce : Cell), st₀.heap = H ∧ Stand p l e R s m args below meth c T' (locs ++ L) (cells + mc) (slots + ms) ∧ (∀ z ∈ L, free z.base) ∧ T'.heap = t.heap ∧ T'.vm = t.vm ∧ XC q E st₀ t ∧ t.heap[q]? = some ce ∧ ce.vm = .none ∧ s.vm.findClass E = some ce.cls ∧
      Steps p.tables e below (T.setTop g) ((T'.setTop { g with stack := rest }).pushFrame (.throwing q)))
/-- the receiver: none (static); some none (a constructor's); some (some C): an object of class C -/
def RecvOk (s : State) (H : Heap) (C : Option (Option String)) (As : List Value) : Prop := match C with
  | none => True
  | some none => ∃ b As', As = .ref b :: As'
  | some (some C) => ∃ b As' cell, As = .ref b :: As' ∧ H[b]? = some cell ∧ cell.vm.isStatics = false ∧ s.vm.findClass C = some cell.cls
def CallOk (own : String) (cc : ByteArray) (nL pc len : Nat) (C : Option (Option String)) (t : MT) (n : Nat) : Prop :=
  ∀ (G : GG) (d : Nat) (nm : String) (p : Program) (l : Launch) (e : Env) (R : Room) (s : State) (m : MethodId) (args : Array Value) (below : List Frame) (meth : Method) (c : Code), Cx G own cc nL nm (d + 1) p R s m args meth c →
  ∀ (H : Heap) (locs : List Jvm.Loc) (cells slots : Nat) (ls : Array Slot) (Pc : Array Value → State → Prop) (Qc : Array Value → State → Outcome → State → Prop) (XC : Addr → String → State → State → Prop) (mc ms : Nat) (free : Addr → Prop) (As rest : List Value),
  vx_Met l t.1 (mtW t) (mtR d mc ms) Pc Qc XC mc ms free → FrameBlind Pc → RecvOk s H C As → (∀ U : State, U.heap = H → s.WarmedH U.vm → Pc As.toArray U) → As.length = n → ls.size = nL → (rest.map fun v => v.category).sum ≤ 8 → cells + mc ≤ R.cells → slots + ms ≤ R.slots →
  RunL len p l e R s m args below meth c H locs cells slots mc ms (F0 m pc ls (As.reverse ++ rest)) rest (Qc As.toArray) XC free
theorem lw_mtW {t : MT} (h : mtC t ∈ lw_all) : GoodIn lw_all (mtW t) := by
  intro w hw
  rcases List.mem_cons.mp hw with e | e
  · rw [e]; exact lw_self _ h
  · exact lw_self _ e
theorem lw_mtA {t : MT} {a : List Jvm.Cond} (ha : ∀ w ∈ a, w ∈ lw_all) (h : mtC t ∈ lw_all) : GoodIn lw_all (a ++ mtW t) := lw_app ha (lw_mtW h)
theorem l4 {a b c d : Jvm.Cond} (h1 : a ∈ lw_all) (h2 : b ∈ lw_all) (h3 : c ∈ lw_all) (h4 : d ∈ lw_all) : ∀ w ∈ ([a, b, c, d] : List Jvm.Cond), w ∈ lw_all := by
  intro w hw
  simp only [List.mem_cons, List.not_mem_nil, or_false] at hw
  rcases hw with e | e | e | e <;> rw [e] <;> assumption
theorem l3 {a b c : Jvm.Cond} (h1 : a ∈ lw_all) (h2 : b ∈ lw_all) (h3 : c ∈ lw_all) : ∀ w ∈ ([a, b, c] : List Jvm.Cond), w ∈ lw_all := by
  intro w hw
  simp only [List.mem_cons, List.not_mem_nil, or_false] at hw
  rcases hw with e | e | e <;> rw [e] <;> assumption
theorem l5 {a b c d f : Jvm.Cond} (h1 : a ∈ lw_all) (h2 : b ∈ lw_all) (h3 : c ∈ lw_all) (h4 : d ∈ lw_all) (h5 : f ∈ lw_all) : ∀ w ∈ ([a, b, c, d, f] : List Jvm.Cond), w ∈ lw_all := by
  intro w hw
  simp only [List.mem_cons, List.not_mem_nil, or_false] at hw
  rcases hw with e | e | e | e | e <;> rw [e] <;> assumption
section CK
variable {own : String} {cc : ByteArray} {nL pc idx : Nat} {y : MethodName} {bytes : ByteArray} {maxL : Nat} {ret : Option FieldType} {n : Nat}
/-- what is asked of every callee: few locals, and its number of parameters -/
def YOk (y : MethodName) (maxL n : Nat) : Prop := maxL ≤ 150 ∧ y.cls ≠ "java/lang/invoke/MethodHandle" ∧ y.cls ≠ "java/lang/invoke/VarHandle" ∧ (parseMethodDescriptor y.desc).map (fun d => d.parameters.length) = some n
theorem ck_V (hd : decode cc pc = .ok (.invokevirtual idx, 3)) (hy : YOk y maxL n) (w1 : Cond.methodLink own idx y ∈ lw_all) (w2 : Cond.instanceMethod y ∈ lw_all) (w3 : Cond.selects y.cls y y ∈ lw_all) (w4 : Cond.initialized y.cls ∈ lw_all) (w5 : Cond.code y bytes maxL ret ∈ lw_all) : CallOk own cc nL pc 3 (some (some y.cls)) (y, bytes, maxL, ret, []) (n + 1) := by
  intro G d nm p l e R s m args below meth c C H locs cells slots ls Pc Qc XC mc ms free As rest hM hbl hr hp hn hls hrest hc hs
  obtain ⟨hx, hb, hml, hown, hts, hKS, hlk, hnm, hfr, hlo⟩ := C
  obtain ⟨b, As', cell, rfl, e1, e2, e3⟩ := hr
  have h0 := hy.1
  rw [show ((.ref b :: As' : List Value)).reverse ++ rest = As'.reverse ++ .ref b :: rest by simp]
  exact vx_runV (As := As') (rest := rest) ⟨hx, hb, hml, hown, hts⟩ hM (cwV n hts (lw_mtA (t := (y, bytes, maxL, ret, [])) (l4 w1 w2 w3 w4) w5) rfl rfl rfl ⟨rfl, hy.2⟩ ⟨by show d + 1 + 1 ≤ _; omega, by show 8 + (maxL + 11) + (200 * d + 100) ≤ _; omega⟩) ⟨hbl, ⟨cell, e1, e2, e3⟩, hp⟩ rfl (by simpa using hn) hls rfl (by show 2 * 0 + _ ≤ 8; omega) hd ⟨hc, hs⟩
theorem ck_VH {hh : Nat × Nat × Nat × Nat} {ht : List (Nat × Nat × Nat × Nat)} (hd : decode cc pc = .ok (.invokevirtual idx, 3)) (hy : YOk y maxL n) (w1 : Cond.methodLink own idx y ∈ lw_all) (w2 : Cond.instanceMethod y ∈ lw_all) (w3 : Cond.selects y.cls y y ∈ lw_all) (w4 : Cond.initialized y.cls ∈ lw_all) (w5 : Cond.codeWith y bytes maxL ret (hh :: ht) ∈ lw_all) : CallOk own cc nL pc 3 (some (some y.cls)) (y, bytes, maxL, ret, hh :: ht) (n + 1) := by
  intro G d nm p l e R s m args below meth c C H locs cells slots ls Pc Qc XC mc ms free As rest hM hbl hr hp hn hls hrest hc hs
  obtain ⟨hx, hb, hml, hown, hts, hKS, hlk, hnm, hfr, hlo⟩ := C
  obtain ⟨b, As', cell, rfl, e1, e2, e3⟩ := hr
  have h0 := hy.1
  rw [show ((.ref b :: As' : List Value)).reverse ++ rest = As'.reverse ++ .ref b :: rest by simp]
  have hG := lw_mtA (t := (y, bytes, maxL, ret, hh :: ht)) (l4 w1 w2 w3 w4) w5
  refine vx_runVX (hh := hh :: ht) (As := As') (rest := rest) (bytes := bytes) (maxL := maxL) (ret := ret) (n := n) ⟨hx, hb, hml, hown, hts⟩ hM ⟨⟨rfl, rfl, by show d + 1 + 1 ≤ _; omega, by show 8 + (maxL + 11) + (200 * d + 100) ≤ _; omega, fun w hw a' U hW => ?_, List.mem_cons_self⟩, hts _ w5, hts _ w4, ⟨hy.2.1, hy.2.2.1⟩, fun sig hsig => ?_, hts _ w1, hts _ w2, hts _ w3⟩ ⟨hbl, ⟨cell, e1, e2, e3⟩, hp⟩ rfl (by simpa using hn) hls rfl (by show 2 * 0 + _ ≤ 8; omega) hd ⟨hc, hs⟩
  · obtain ⟨g1, g2⟩ := hG w (List.mem_append_right _ hw)
    exact word_at hW g2 (hts _ g1)
  · have := hy.2.2.2
    rw [hsig] at this
    exact (Option.some.inj this).symm
theorem ck_S (hd : decode cc pc = .ok (.invokestatic idx, 3)) (hy : YOk y maxL n) (w1 : Cond.methodLink own idx y ∈ lw_all) (w2 : Cond.static y ∈ lw_all) (w4 : Cond.initialized y.cls ∈ lw_all) (w5 : Cond.code y bytes maxL ret ∈ lw_all) : CallOk own cc nL pc 3 none (y, bytes, maxL, ret, []) n := by
  intro G d nm p l e R s m args below meth c C H locs cells slots ls Pc Qc XC mc ms free As rest hM hbl hr hp hn hls hrest hc hs
  obtain ⟨hx, hb, hml, hown, hts, hKS, hlk, hnm, hfr, hlo⟩ := C
  have h0 := hy.1
  exact vx_runS (As := As) (rest := rest) ⟨hx, hb, hml, hown, hts⟩ hM (va_cwS n hts (lw_mtA (t := (y, bytes, maxL, ret, [])) (l3 w1 w2 w4) w5) rfl rfl rfl hy.2 ⟨by show d + 1 + 1 ≤ _; omega, by show 8 + (maxL + 11) + (200 * d + 100) ≤ _; omega⟩) ⟨hbl, hp⟩ rfl hn hls rfl (by show 2 * 0 + _ ≤ 8; omega) hd ⟨hc, hs⟩
theorem ck_I (hd : decode cc pc = .ok (.invokespecial idx, 3)) (hy : YOk y maxL n) (hy1 : y.name = "<init>") (w1 : Cond.methodLink own idx y ∈ lw_all) (w2 : Cond.instanceMethod y ∈ lw_all) (w4 : Cond.initialized y.cls ∈ lw_all) (w5 : Cond.code y bytes maxL none ∈ lw_all) : CallOk own cc nL pc 3 (some none) (y, bytes, maxL, none, []) (n + 1) := by
  intro G d nm p l e R s m args below meth c C H locs cells slots ls Pc Qc XC mc ms free As rest hM hbl hr hp hn hls hrest hc hs
  obtain ⟨hx, hb, hml, hown, hts, hKS, hlk, hnm, hfr, hlo⟩ := C
  obtain ⟨b, As', rfl⟩ := hr
  have h0 := hy.1
  rw [show ((.ref b :: As' : List Value)).reverse ++ rest = As'.reverse ++ .ref b :: rest by simp]
  exact vx_runI (As := As') (rest := rest) ⟨hx, hb, hml, hown, hts⟩ hM (cwI n hts (lw_mtW (t := (y, bytes, maxL, none, [])) w5) rfl rfl rfl (hts _ w4) (hts _ w1) (hts _ w2) hy1 hy.2 ⟨by show d + 1 + 1 ≤ _; omega, by show 8 + (maxL + 11) + (200 * d + 100) ≤ _; omega⟩) ⟨hbl, hp⟩ rfl (by simpa using hn) hls rfl (by show 2 * 0 + _ ≤ 8; omega) hd ⟨hc, hs⟩
theorem ck_VN {host : String} (hd : decode cc pc = .ok (.invokevirtual idx, 3)) (hy : YOk y maxL n) (w1 : Cond.methodLinkNest own idx y host ∈ lw_tbl) (w2 : Cond.instanceMethod y ∈ lw_all) (w3 : Cond.selects y.cls y y ∈ lw_all) (w4 : Cond.initialized y.cls ∈ lw_all) (w5 : Cond.code y bytes maxL ret ∈ lw_all) : CallOk own cc nL pc 3 (some (some y.cls)) (y, bytes, maxL, ret, []) (n + 1) := by
  intro G d nm p l e R s m args below meth c C H locs cells slots ls Pc Qc XC mc ms free As rest hM hbl hr hp hn hls hrest hc hs
  obtain ⟨hx, hb, hml, hown, hts, hKS, hlk, hnm, hfr, hlo⟩ := C
  obtain ⟨b, As', cell, rfl, e1, e2, e3⟩ := hr
  have h0 := hy.1
  rw [show ((.ref b :: As' : List Value)).reverse ++ rest = As'.reverse ++ .ref b :: rest by simp]
  exact vx_runVN (As := As') (rest := rest) ⟨hx, hb, hml, hown, hts⟩ hM ⟨va_cnB n hts (lw_mtW (t := (y, bytes, maxL, ret, [])) w5) rfl rfl rfl (hKS.2.1 _ w1 rfl) (hts _ w4) hy.2 ⟨by show d + 1 + 1 ≤ _; omega, by show 8 + (maxL + 11) + (200 * d + 100) ≤ _; omega⟩, hts _ w2, hts _ w3⟩ ⟨hbl, ⟨cell, e1, e2, e3⟩, hp⟩ rfl (by simpa using hn) hls rfl (by show 2 * 0 + _ ≤ 8; omega) hd ⟨hc, hs⟩
theorem ck_SN {host : String} (hd : decode cc pc = .ok (.invokestatic idx, 3)) (hy : YOk y maxL n) (w1 : Cond.methodLinkNest own idx y host ∈ lw_tbl) (w2 : Cond.static y ∈ lw_all) (w4 : Cond.initialized y.cls ∈ lw_all) (w5 : Cond.code y bytes maxL ret ∈ lw_all) : CallOk own cc nL pc 3 none (y, bytes, maxL, ret, []) n := by
  intro G d nm p l e R s m args below meth c C H locs cells slots ls Pc Qc XC mc ms free As rest hM hbl hr hp hn hls hrest hc hs
  obtain ⟨hx, hb, hml, hown, hts, hKS, hlk, hnm, hfr, hlo⟩ := C
  have h0 := hy.1
  exact vx_runSN (As := As) (rest := rest) ⟨hx, hb, hml, hown, hts⟩ hM ⟨va_cnB n hts (lw_mtW (t := (y, bytes, maxL, ret, [])) w5) rfl rfl rfl (hKS.2.1 _ w1 rfl) (hts _ w4) hy.2 ⟨by show d + 1 + 1 ≤ _; omega, by show 8 + (maxL + 11) + (200 * d + 100) ≤ _; omega⟩, hts _ w2, trivial⟩ ⟨hbl, hp⟩ rfl hn hls rfl (by show 2 * 0 + _ ≤ 8; omega) hd ⟨hc, hs⟩
theorem ck_IN {host : String} (hd : decode cc pc = .ok (.invokespecial idx, 3)) (hy : YOk y maxL n) (hy1 : y.name = "<init>") (w1 : Cond.methodLinkNest own idx y host ∈ lw_tbl) (w2 : Cond.instanceMethod y ∈ lw_all) (w4 : Cond.initialized y.cls ∈ lw_all) (w5 : Cond.code y bytes maxL none ∈ lw_all) : CallOk own cc nL pc 3 (some none) (y, bytes, maxL, none, []) (n + 1) := by
  intro G d nm p l e R s m args below meth c C H locs cells slots ls Pc Qc XC mc ms free As rest hM hbl hr hp hn hls hrest hc hs
  obtain ⟨hx, hb, hml, hown, hts, hKS, hlk, hnm, hfr, hlo⟩ := C
  obtain ⟨b, As', rfl⟩ := hr
  have h0 := hy.1
  rw [show ((.ref b :: As' : List Value)).reverse ++ rest = As'.reverse ++ .ref b :: rest by simp]
  exact vx_runIN (As := As') (rest := rest) ⟨hx, hb, hml, hown, hts⟩ hM ⟨va_cnB n hts (lw_mtW (t := (y, bytes, maxL, none, [])) w5) rfl rfl rfl (hKS.2.1 _ w1 rfl) (hts _ w4) hy.2 ⟨by show d + 1 + 1 ≤ _; omega, by show 8 + (maxL + 11) + (200 * d + 100) ≤ _; omega⟩, hy1, hts _ w2⟩ ⟨hbl, hp⟩ rfl (by simpa using hn) hls rfl (by show 2 * 0 + _ ≤ 8; omega) hd ⟨hc, hs⟩
/-- inherited: y is the owner's own method -/
theorem ck_U {C : String} {x : MethodName} (hd : decode cc pc = .ok (.invokevirtual idx, 3)) (hyx : y = ⟨y.cls, x.name, x.desc⟩) (hy : YOk y maxL n) (w1 : Cond.methodLink own idx x ∈ lw_all) (w2 : Cond.sameMethod x.cls y.cls x.name x.desc ∈ lw_all) (w3 : Cond.selects C x y ∈ lw_all) (w6 : Cond.instanceMethod y ∈ lw_all) (w4 : Cond.initialized y.cls ∈ lw_all) (w5 : Cond.code y bytes maxL ret ∈ lw_all) : CallOk own cc nL pc 3 (some (some C)) (y, bytes, maxL, ret, []) (n + 1) := by
  intro G d nm p l e R s m args below meth c C9 H locs cells slots ls Pc Qc XC mc ms free As rest hM hbl hr hp hn hls hrest hc hs
  obtain ⟨hx, hb, hml, hown, hts, hKS, hlk, hnm, hfr, hlo⟩ := C9
  obtain ⟨b, As', cell, rfl, e1, e2, e3⟩ := hr
  have h0 := hy.1
  rw [show ((.ref b :: As' : List Value)).reverse ++ rest = As'.reverse ++ .ref b :: rest by simp]
  have hdx : y.desc = x.desc := show y.desc = (⟨y.cls, x.name, x.desc⟩ : MethodName).desc from congrArg MethodName.desc hyx
  refine vx_runU (As := As') (rest := rest) ⟨hx, hb, hml, hown, hts⟩ hM (va_cwU (owner := y.cls) (x := x) n hts (lw_mtA (t := (y, bytes, maxL, ret, [])) (l5 w1 w2 w3 w6 w4) w5) rfl rfl rfl hyx ⟨hy.2.1, hy.2.2.1, by rw [← hdx]; exact hy.2.2.2⟩ ⟨by show d + 1 + 1 ≤ _; omega, by show 8 + (maxL + 11) + (200 * d + 100) ≤ _; omega⟩) ⟨hbl, ⟨cell, e1, e2, e3⟩, hp⟩ rfl (by simpa using hn) hls rfl (by show 2 * 0 + _ ≤ 8; omega) hd ⟨hc, hs⟩
/-- an abstract method x, selected y -/
theorem ck_A {C : String} {x : MethodName} (hd : decode cc pc = .ok (.invokevirtual idx, 3)) (hm : maxL ≤ 150) (hx9 : x.cls ≠ "java/lang/invoke/MethodHandle" ∧ x.cls ≠ "java/lang/invoke/VarHandle" ∧ (parseMethodDescriptor x.desc).map (fun d => d.parameters.length) = some n) (w1 : Cond.methodLink own idx x ∈ lw_all) (w2 : Cond.sameMethod x.cls x.cls x.name x.desc ∈ lw_all) (w3 : Cond.selects C x y ∈ lw_all) (w6 : Cond.instanceMethod y ∈ lw_all) (w4 : Cond.initialized y.cls ∈ lw_all) (w7 : Cond.declares ⟨x.cls, x.name, x.desc⟩ ∈ lw_tbl) (w5 : Cond.code y bytes maxL ret ∈ lw_all) : CallOk own cc nL pc 3 (some (some C)) (y, bytes, maxL, ret, []) (n + 1) := by
  intro G d nm p l e R s m args below meth c C9 H locs cells slots ls Pc Qc XC mc ms free As rest hM hbl hr hp hn hls hrest hc hs
  obtain ⟨hx, hb, hml, hown, hts, hKS, hlk, hnm, hfr, hlo⟩ := C9
  obtain ⟨b, As', cell, rfl, e1, e2, e3⟩ := hr
  rw [show ((.ref b :: As' : List Value)).reverse ++ rest = As'.reverse ++ .ref b :: rest by simp]
  refine vx_runU (As := As') (rest := rest) ⟨hx, hb, hml, hown, hts⟩ hM (va_cwA (owner := x.cls) (x := x) n hts (lw_mtA (t := (y, bytes, maxL, ret, [])) (l5 w1 w2 w3 w6 w4) w5) rfl rfl rfl (hKS.2.1 _ w7 rfl) hx9 ⟨by show d + 1 + 1 ≤ _; omega, by show 8 + (maxL + 11) + (200 * d + 100) ≤ _; omega⟩) ⟨hbl, ⟨cell, e1, e2, e3⟩, hp⟩ rfl (by simpa using hn) hls rfl (by show 2 * 0 + _ ≤ 8; omega) hd ⟨hc, hs⟩
/-- super.m() -/
theorem ck_SU {C : String} {ci : Nat} {r : vw_C} (hd : decode cc pc = .ok (.invokespecial idx, 3)) (hci : gcl[ci]? = some r) (hC : r.1 = C) (hy : YOk y maxL n) (hy1 : y.name ≠ "<init>") (w1 : Cond.methodLink own idx y ∈ lw_all) (w2 : Cond.sameMethod y.cls y.cls y.name y.desc ∈ lw_all) (w3 : Cond.superclass own y.cls ∈ lw_all) (w6 : Cond.instanceMethod y ∈ lw_all) (w4 : Cond.initialized y.cls ∈ lw_all) (w5 : Cond.code y bytes maxL ret ∈ lw_all) : CallOk own cc nL pc 3 (some (some C)) (y, bytes, maxL, ret, []) (n + 1) := by
  intro G d nm p l e R s m args below meth c C9 H locs cells slots ls Pc Qc XC mc ms free As rest hM hbl hr hp hn hls hrest hc hs
  obtain ⟨hx, hb, hml, hown, hts, hKS, hlk, hnm, hfr, hlo⟩ := C9
  obtain ⟨b, As', cell, rfl, e1, e2, e3⟩ := hr
  have h0 := hy.1
  obtain ⟨cC, hat⟩ : ∃ cC, ClassAt s C cC := ⟨_, by rw [← hC]; exact (hKS.1.1 ci r hci).2⟩
  rw [show ((.ref b :: As' : List Value)).reverse ++ rest = As'.reverse ++ .ref b :: rest by simp]
  exact vx_runSU (As := As') (rest := rest) hat ⟨hx, hb, hml, hown, hts⟩ hM (va_cwSU n hts (lw_mtA (t := (y, bytes, maxL, ret, [])) (l5 w1 w2 w3 w6 w4) w5) rfl rfl rfl ⟨hy1, hy.2.2.2⟩ ⟨by show d + 1 + 1 ≤ _; omega, by show 8 + (maxL + 11) + (200 * d + 100) ≤ _; omega⟩) ⟨hbl, ⟨cell, e1, e2, e3⟩, hp⟩ rfl (by simpa using hn) hls rfl (by show 2 * 0 + _ ≤ 8; omega) hd ⟨hc, hs⟩
/-- a call through java.util.List -/
theorem ck_F {C : String} {x : MethodName} {cnt ci : Nat} {r : vw_C} (hd : decode cc pc = .ok (.invokeinterface idx cnt, 5)) (hci : gcl[ci]? = some r) (hC : r.1 = C) (hF : ∀ (G : GG) (s : State), KS G s → va_Fw C x y s) (hm : maxL ≤ 150) (hx9 : x.cls ≠ "java/lang/invoke/MethodHandle" ∧ x.cls ≠ "java/lang/invoke/VarHandle" ∧ (parseMethodDescriptor x.desc).map (fun d => d.parameters.length) = some n) (w1 : Cond.methodLink own idx x ∈ lw_all) (w3 : Cond.selects C x y ∈ lw_all) (w6 : Cond.instanceMethod y ∈ lw_all) (w4 : Cond.initialized y.cls ∈ lw_all) (w5 : Cond.code y bytes maxL ret ∈ lw_all) : CallOk own cc nL pc 5 (some (some C)) (y, bytes, maxL, ret, []) (n + 1) := by
  intro G d nm p l e R s m args below meth c C9 H locs cells slots ls Pc Qc XC mc ms free As rest hM hbl hr hp hn hls hrest hc hs
  obtain ⟨hx, hb, hml, hown, hts, hKS, hlk, hnm, hfr, hlo⟩ := C9
  obtain ⟨b, As', cell, rfl, e1, e2, e3⟩ := hr
  obtain ⟨cC, hat⟩ : ∃ cC, ClassAt s C cC := ⟨_, by rw [← hC]; exact (hKS.1.1 ci r hci).2⟩
  rw [show ((.ref b :: As' : List Value)).reverse ++ rest = As'.reverse ++ .ref b :: rest by simp]
  exact vx_runF (As := As') (rest := rest) hat ⟨hx, hb, hml, hown, hts⟩ hM (va_cwF n hts (lw_mtA (t := (y, bytes, maxL, ret, [])) (l4 w1 w3 w6 w4) w5) rfl rfl rfl (hF G s hKS) hx9 ⟨by show d + 1 + 1 ≤ _; omega, by show 8 + (maxL + 11) + (200 * d + 100) ≤ _; omega⟩) ⟨hbl, ⟨cell, e1, e2, e3⟩, hp⟩ rfl (by simpa using hn) hls rfl (by show 2 * 0 + _ ≤ 8; omega) hd ⟨hc, hs⟩
end CK
