/-! ===== SOUNDNESS: what the interpreter does, the machine does ===== -/
abbrev GG : Type := Nat × (Int → Value) × va_G
def cr (G : GG) (z : Int) : Value := if z = 0 then .null else if z < 0 then G.2.1 z else .ref (G.1 + (z.toNat - 1))
def cv (G : GG) : AV → Value
  | .inl z => .int (Int32.ofInt z)
  | .inr (.inl z) => .long (Int64.ofInt z)
  | .inr (.inr z) => cr G z
def cf (G : GG) (ty : FieldType) (z : Int) : Value := match ty with
  | .long => .long (Int64.ofInt z)
  | .object _ => cr G z
  | .array _ => cr G z
  | _ => .int (Int32.ofInt z)
def r32 (z : Int) : Prop := -2147483648 ≤ z ∧ z < 2147483648
def r64 (z : Int) : Prop := -9223372036854775808 ≤ z ∧ z < 9223372036854775808
def inR (ty : FieldType) (z : Int) : Prop := match ty with
  | .long => r64 z
  | .object _ => True
  | .array _ => True
  | .byte => -128 ≤ z ∧ z < 128
  | .boolean => z = 0 ∨ z = 1
  | .char => 0 ≤ z ∧ z < 65536
  | _ => r32 z
def wfv : AV → Prop
  | .inl z => r32 z
  | .inr (.inl z) => r64 z
  | .inr (.inr _) => True
def aty (t : Int) : Option FieldType := if t = -1 then some .int else if t = -2 then some .byte else if t = -3 then some .char else if t = -4 then some .long else if t = -5 then some .short else if t = -6 then some .boolean else if t = -10 then some (.object "java/lang/Object") else if t = -11 then some (.object "GardenChess$Moves") else if t = -12 then some (.object "GardenChess$State") else if t = -13 then some (.array .int) else if t = -14 then some (.object "java/lang/String") else none
def cellO (G : GG) (h : AH) (H : Heap) (z : Int) : Prop := ∃ (q : Nat) (r : vw_C), cr G z = .ref q ∧ gcl[(ah_t h z).1.toNat - 1]? = some r ∧ t_OB q (G.2.2.1 ((ah_t h z).1.toNat - 1)) r.2.2 (G.2.2.2 ((ah_t h z).1.toNat - 1)) H (fun k => cf G (gty ((ah_t h z).1.toNat - 1) k) (ah_m h z k)) ∧ ∀ k : Nat, k < r.2.2 → inR (gty ((ah_t h z).1.toNat - 1) k) (ah_m h z k)
def cellA (G : GG) (s : State) (h : AH) (H : Heap) (z : Int) : Prop := ∃ (q : Nat) (cA : ClassId) (ty : FieldType), cr G z = .ref q ∧ aty (ah_t h z).1 = some ty ∧ 0 ≤ (ah_t h z).2 ∧ (ah_t h z).2 < 2147483648 ∧ H[q]? = some (arrV cA (ah_t h z).2.toNat (fun i => cf G ty (ah_m h z i))) ∧ ArrOfT s cA ty ∧ va_RA s cA ty ∧ ∀ i : Nat, (i : Int) < (ah_t h z).2 → inR ty (ah_m h z i)
def RH (G : GG) (s : State) (h : AH) (H : Heap) : Prop := H.size + 1 = G.1 + (ah_n h).toNat ∧ 1 ≤ ah_n h ∧ (∀ z, ah_n h ≤ z → (ah_t h z).1 = 0) ∧ (∀ z, 0 < (ah_t h z).1 → cellO G h H z) ∧ (∀ z, (ah_t h z).1 < 0 → cellA G s h H z) ∧ ∀ x ∈ gsz, va_Z x.1 x.2.1 x.2.2.1 (cv G (ofK x.2.2.2.1 x.2.2.2.2)) (fun q => G.1 ≤ q) s H
def isNW : Jvm.Cond → Bool
  | .fieldLinkNest _ _ _ _ _ _ => true
  | .methodLinkNest _ _ _ _ => true
  | .castable _ _ => true
  | .declares _ => true
  | _ => false
def KS (G : GG) (s : State) : Prop := va_K G.2.2 gcl [] s ∧ (∀ w ∈ lw_tbl, isNW w = true → va_Nw w s) ∧
  (va_Fw "java/util/ArrayList" ⟨"java/util/List", "size", "()I"⟩ ⟨"java/util/ArrayList", "size", "()I"⟩ s ∧ va_Fw "java/util/ArrayList" ⟨"java/util/List", "get", "(I)Ljava/lang/Object;"⟩ ⟨"java/util/ArrayList", "get", "(I)Ljava/lang/Object;"⟩ s ∧ va_Fw "java/util/ArrayList" ⟨"java/util/List", "add", "(Ljava/lang/Object;)Z"⟩ ⟨"java/util/ArrayList", "add", "(Ljava/lang/Object;)Z"⟩ s) ∧
  (va_AO "java/lang/Object" s ∧ va_AO "GardenChess$Moves" s ∧ va_AO "GardenChess$State" s ∧ (Cond.arrayOver (.array .int)).before #[] s = true) ∧
  (∀ x ∈ gss, ∃ q, G.2.1 x.2.2.2 = .ref q ∧ vk_R x.1 x.2.1 x.2.2.1 q s) ∧ (∃ mi, G.2.1 (-308) = .ref mi ∧ va_Mi "[Ljava/lang/Object;" mi s) ∧ (∀ x ∈ gss, x.2.2.2 < 0) ∧
  ∀ z, z < 0 → G.2.1 z = .null ∨ ∃ q, q < G.1 ∧ G.2.1 z = .ref q
def St (G : GG) (nL : Nat) (n0 s0 : Int) (s : State) (L : ALoc) (st : AStk) (h : AH) (H : Heap) (locs : List Jvm.Loc) (cells slots : Nat) (ls : Array Slot) (sv : List Value) : Prop :=
  RH G s h H ∧ (∀ x ∈ locs, G.1 ≤ x.base) ∧ (n0 ≤ ah_n h ∧ cells = (ah_n h - n0).toNat) ∧ (s0 ≤ ah_s h ∧ slots = (ah_s h - s0).toNat) ∧ (ls.size = nL ∧ lv_wf ls ∧ ∀ j v, lget L j = some v → wfv v ∧ ls[j]? = some (.val (cv G v))) ∧ sv = st.map (cv G) ∧ ∀ v ∈ st, wfv v
def Cx (G : GG) (own : String) (cc : ByteArray) (nL : Nat) (nm : String) (d : Nat) (p : Program) (R : Room) (s : State) (m : MethodId) (args : Array Value) (meth : Method) (c : Code) : Prop :=
  p.tables.exec = Jvm.exec ∧ c.code = cc ∧ c.maxLocals = nL ∧ s.vm.findClass own = some m.cls ∧ (∀ w ∈ lw_all, w.before args s = true) ∧ KS G s ∧ meth.locks = false ∧ meth.name = nm ∧ d + 1 ≤ R.frames ∧ 200 * d + 100 ≤ R.locals
def StepOk (own : String) (cc : ByteArray) (nL : Nat) (nm : String) (pc len : Nat) (x : AI) : Prop :=
  ∀ (G : GG) (d : Nat) (p : Program) (l : Launch) (e : Env) (R : Room) (s : State) (m : MethodId) (args : Array Value) (below : List Frame) (meth : Method) (c : Code), Cx G own cc nL nm d p R s m args meth c →
  ∀ (n0 s0 : Int) (L : ALoc) (st : AStk) (h : AH) (L' : ALoc) (st' : AStk) (h' : AH), sem1 x L st h = some (L', st', h') → ah_n h' - n0 ≤ R.cells → ah_s h' - s0 ≤ R.slots →
  ∀ (H : Heap) (locs : List Jvm.Loc) (cells slots : Nat) (ls : Array Slot) (sv : List Value) (Q : State → Prop), St G nL n0 s0 s L st h H locs cells slots ls sv →
  (∀ (H' : Heap) (locs' : List Jvm.Loc) (cells' slots' : Nat) (ls' : Array Slot) (sv' : List Value), St G nL n0 s0 s L' st' h' H' locs' cells' slots' ls' sv' → W p l e R s m args below meth c H' locs' cells' slots' Q (F0 m (pc + len) ls' sv')) →
  W p l e R s m args below meth c H locs cells slots Q (F0 m pc ls sv)
/-! arithmetic -/
theorem w32_eq (z : Int) : w32 z = (Int32.ofInt z).toInt := by
  rw [Int32.toInt_ofInt, show Int32.size = 4294967296 from rfl]
  unfold w32 Int.bmod
  simp only
  split <;> omega
theorem w64_eq (z : Int) : w64 z = (Int64.ofInt z).toInt := by
  rw [Int64.toInt_ofInt, show Int64.size = 18446744073709551616 from rfl]
  unfold w64 Int.bmod
  simp only
  split <;> omega
theorem w32_of (z : Int) : Int32.ofInt (w32 z) = Int32.ofInt z := by rw [w32_eq, Int32.ofInt_toInt]
theorem w64_of (z : Int) : Int64.ofInt (w64 z) = Int64.ofInt z := by rw [w64_eq, Int64.ofInt_toInt]
theorem w32_r (z : Int) : r32 (w32 z) := by unfold w32 r32; omega
theorem w64_r (z : Int) : r64 (w64 z) := by unfold w64 r64; omega
theorem w32_id {z : Int} (h : r32 z) : w32 z = z := by unfold r32 at h; unfold w32; omega
theorem w64_id {z : Int} (h : r64 z) : w64 z = z := by unfold r64 at h; unfold w64; omega
theorem t32 {z : Int} (h : r32 z) : (Int32.ofInt z).toInt = z := by rw [← w32_eq, w32_id h]
theorem t64 {z : Int} (h : r64 z) : (Int64.ofInt z).toInt = z := by rw [← w64_eq, w64_id h]
theorem tI_r (x : Int32) : r32 x.toInt := ⟨by have := Int32.le_toInt x; omega, by have := Int32.toInt_lt x; omega⟩
theorem tL_r (x : Int64) : r64 x.toInt := ⟨by have := Int64.le_toInt x; omega, by have := Int64.toInt_lt x; omega⟩
theorem i32_inj {x y : Int} (hx : r32 x) (hy : r32 y) : Int32.ofInt x = Int32.ofInt y ↔ x = y := ⟨fun h => by rw [← t32 hx, ← t32 hy, h], fun h => by rw [h]⟩
theorem i32_lt {x y : Int} (hx : r32 x) (hy : r32 y) : Int32.ofInt x < Int32.ofInt y ↔ x < y := by rw [Int32.lt_iff_toInt_lt, t32 hx, t32 hy]
theorem i32_le {x y : Int} (hx : r32 x) (hy : r32 y) : Int32.ofInt x ≤ Int32.ofInt y ↔ x ≤ y := by rw [Int32.le_iff_toInt_le, t32 hx, t32 hy]
theorem i64_inj {x y : Int} (hx : r64 x) (hy : r64 y) : Int64.ofInt x = Int64.ofInt y ↔ x = y := ⟨fun h => by rw [← t64 hx, ← t64 hy, h], fun h => by rw [h]⟩
theorem i64_lt {x y : Int} (hx : r64 x) (hy : r64 y) : Int64.ofInt x < Int64.ofInt y ↔ x < y := by rw [Int64.lt_iff_toInt_lt, t64 hx, t64 hy]
theorem St.stk {G : GG} {nL : Nat} {n0 s0 : Int} {s : State} {L : ALoc} {st : AStk} {h : AH} {H : Heap} {locs : List Jvm.Loc} {cells slots : Nat} {ls : Array Slot} {sv : List Value} (S : St G nL n0 s0 s L st h H locs cells slots ls sv) (st' : AStk) (hw : ∀ v ∈ st', wfv v) : St G nL n0 s0 s L st' h H locs cells slots ls (st'.map (cv G)) := ⟨S.1, S.2.1, S.2.2.1, S.2.2.2.1, S.2.2.2.2.1, rfl, hw⟩
theorem wf_c {v : AV} {st : AStk} (h1 : wfv v) (h2 : ∀ u ∈ st, wfv u) : ∀ u ∈ v :: st, wfv u := fun u hu => (List.mem_cons.mp hu).elim (fun e => e ▸ h1) (h2 u)
theorem wf_t {v : AV} {st : AStk} (h2 : ∀ u ∈ v :: st, wfv u) : ∀ u ∈ st, wfv u := fun u hu => h2 u (List.mem_cons_of_mem _ hu)
theorem wf_h {v : AV} {st : AStk} (h2 : ∀ u ∈ v :: st, wfv u) : wfv v := h2 v List.mem_cons_self
