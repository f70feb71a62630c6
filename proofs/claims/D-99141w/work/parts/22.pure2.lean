/-! ===== instructions, a lemma each ===== -/
section INS
variable {own : String} {cc : ByteArray} {nL : Nat} {nm : String} {pc len : Nat} {x : AI} {a b : Int} {t : List (Int × Int)}
theorem sh_st0 {i : Nat} (hs : ∀ L st h, sem1 x L st h = st0 L i st h)
    (row : ∀ {p : Program} {l : Launch} {e : Env} {R : Room} {s : State} {m : MethodId} {args : Array Value} {below : List Frame} {meth : Method} {c : Code} {H : Heap} {locs : List Jvm.Loc} {cells slots : Nat} {Q : State → Prop} {ls : Array Slot} {rest : List Value} {u : Int32} {lv : List (Nat × Value)}, p.tables.exec = Jvm.exec → c.code = cc → lv_has ls nL lv → (∀ ls' : Array Slot, lv_has ls' nL ((i, .int u) :: lv.filter (fun q => !(q.1 == i) && !(q.1 + 1 == i && q.2.category == 2))) → W p l e R s m args below meth c H locs cells slots Q (F0 m (pc + len) ls' rest)) → W p l e R s m args below meth c H locs cells slots Q (F0 m pc ls (.int u :: rest))) : StepOk own cc nL nm pc len x := by
  intro G d p l e R s m args below meth c C n0 s0 L st h L' st' h' hs1 h1 h2 H locs cells slots ls sv Q S k
  rw [hs] at hs1
  unfold st0 at hs1
  split at hs1
  · rename_i z st2
    cases hs1
    rw [S.2.2.2.2.2.1]
    have hw := S.2.2.2.2.2.2
    have hE := C.2.2.2.2.2.1.hE
    exact row (lv := la G L) C.1 C.2.1 S.has (fun ls' hl => k _ _ _ _ _ _ (S.put1 hE (v := .inl z) (wf_h hw) hl _ (wf_t hw)))
  · cases hs1
theorem sh_st2 {i : Nat} (hs : ∀ L st h, sem1 x L st h = st2 L i st h)
    (row : ∀ {p : Program} {l : Launch} {e : Env} {R : Room} {s : State} {m : MethodId} {args : Array Value} {below : List Frame} {meth : Method} {c : Code} {H : Heap} {locs : List Jvm.Loc} {cells slots : Nat} {Q : State → Prop} {ls : Array Slot} {rest : List Value} {u : Option Nat} {lv : List (Nat × Value)}, p.tables.exec = Jvm.exec → c.code = cc → lv_has ls nL lv → (∀ ls' : Array Slot, lv_has ls' nL ((i, va_rf u) :: lv.filter (fun q => !(q.1 == i) && !(q.1 + 1 == i && q.2.category == 2))) → W p l e R s m args below meth c H locs cells slots Q (F0 m (pc + len) ls' rest)) → W p l e R s m args below meth c H locs cells slots Q (F0 m pc ls (va_rf u :: rest))) : StepOk own cc nL nm pc len x := by
  intro G d p l e R s m args below meth c C n0 s0 L st h L' st' h' hs1 h1 h2 H locs cells slots ls sv Q S k
  rw [hs] at hs1
  unfold st2 at hs1
  split at hs1
  · rename_i z st2
    cases hs1
    rw [S.2.2.2.2.2.1]
    have hw := S.2.2.2.2.2.2
    have hE := C.2.2.2.2.2.1.hE
    obtain ⟨u, hu⟩ := cr_rf hE z
    rw [List.map_cons, show cv G (.inr (.inr z)) = va_rf u from hu]
    refine row (lv := la G L) C.1 C.2.1 S.has (fun ls' hl => k _ _ _ _ _ _ (S.put1 hE (v := .inr (.inr z)) (wf_h hw) (by rw [show cv G (.inr (.inr z)) = va_rf u from hu]; exact hl) _ (wf_t hw)))
  · cases hs1
theorem sh_st1 {i : Nat} (hs : ∀ L st h, sem1 x L st h = st1 L i st h)
    (row : ∀ {p : Program} {l : Launch} {e : Env} {R : Room} {s : State} {m : MethodId} {args : Array Value} {below : List Frame} {meth : Method} {c : Code} {H : Heap} {locs : List Jvm.Loc} {cells slots : Nat} {Q : State → Prop} {ls : Array Slot} {rest : List Value} {u : Int64} {lv : List (Nat × Value)}, p.tables.exec = Jvm.exec → c.code = cc → lv_has ls nL lv → (∀ ls' : Array Slot, lv_has ls' nL ((i, .long u) :: lv.filter (fun q => !(q.1 == i) && (!(q.1 == i + 1) && !(q.1 + 1 == i && q.2.category == 2)))) → W p l e R s m args below meth c H locs cells slots Q (F0 m (pc + len) ls' rest)) → W p l e R s m args below meth c H locs cells slots Q (F0 m pc ls (.long u :: rest))) : StepOk own cc nL nm pc len x := by
  intro G d p l e R s m args below meth c C n0 s0 L st h L' st' h' hs1 h1 h2 H locs cells slots ls sv Q S k
  rw [hs] at hs1
  unfold st1 at hs1
  split at hs1
  · rename_i z st2
    cases hs1
    rw [S.2.2.2.2.2.1]
    have hw := S.2.2.2.2.2.2
    have hE := C.2.2.2.2.2.1.hE
    exact row (lv := la G L) C.1 C.2.1 S.has (fun ls' hl => k _ _ _ _ _ _ (S.put2 hE (v := .inr (.inl z)) (wf_h hw) hl _ (wf_t hw)))
  · cases hs1
theorem sh_bI {f : Int → Int → Int} {g : Int32 → Int32 → Int32} (hs : ∀ L st h, sem1 x L st h = bI f L st h) (hf : ∀ u v, r32 u → r32 v → Int32.ofInt (f u v) = g (Int32.ofInt u) (Int32.ofInt v) ∧ r32 (f u v))
    (row : ∀ {p : Program} {l : Launch} {e : Env} {R : Room} {s : State} {m : MethodId} {args : Array Value} {below : List Frame} {meth : Method} {c : Code} {H : Heap} {locs : List Jvm.Loc} {cells slots : Nat} {Q : State → Prop} {ls : Array Slot} {rest : List Value} {u v : Int32}, p.tables.exec = Jvm.exec → c.code = cc → W p l e R s m args below meth c H locs cells slots Q (F0 m (pc + len) ls (.int (g u v) :: rest)) → W p l e R s m args below meth c H locs cells slots Q (F0 m pc ls (.int v :: .int u :: rest))) : StepOk own cc nL nm pc len x := by
  intro G d p l e R s m args below meth c C n0 s0 L st h L' st' h' hs1 h1 h2 H locs cells slots ls sv Q S k
  rw [hs] at hs1
  unfold bI at hs1
  split at hs1
  · rename_i y z st2
    cases hs1
    rw [S.2.2.2.2.2.1]
    have hw := S.2.2.2.2.2.2
    obtain ⟨e1, e2⟩ := hf z y (wf_h (wf_t hw)) (wf_h hw)
    have k9 := k _ _ _ _ _ _ (S.stk (.inl (f z y) :: st2) (wf_c e2 (wf_t (wf_t hw))))
    rw [List.map_cons, show cv G (.inl (f z y)) = .int (g (Int32.ofInt z) (Int32.ofInt y)) from congrArg _ e1] at k9
    exact row C.1 C.2.1 k9
  · cases hs1
theorem sh_bL {f : Int → Int → Int} {g : Int64 → Int64 → Int64} (hs : ∀ L st h, sem1 x L st h = bL f L st h) (hf : ∀ u v, r64 u → r64 v → Int64.ofInt (f u v) = g (Int64.ofInt u) (Int64.ofInt v) ∧ r64 (f u v))
    (row : ∀ {p : Program} {l : Launch} {e : Env} {R : Room} {s : State} {m : MethodId} {args : Array Value} {below : List Frame} {meth : Method} {c : Code} {H : Heap} {locs : List Jvm.Loc} {cells slots : Nat} {Q : State → Prop} {ls : Array Slot} {rest : List Value} {u v : Int64}, p.tables.exec = Jvm.exec → c.code = cc → W p l e R s m args below meth c H locs cells slots Q (F0 m (pc + len) ls (.long (g u v) :: rest)) → W p l e R s m args below meth c H locs cells slots Q (F0 m pc ls (.long v :: .long u :: rest))) : StepOk own cc nL nm pc len x := by
  intro G d p l e R s m args below meth c C n0 s0 L st h L' st' h' hs1 h1 h2 H locs cells slots ls sv Q S k
  rw [hs] at hs1
  unfold bL at hs1
  split at hs1
  · rename_i y z st2
    cases hs1
    rw [S.2.2.2.2.2.1]
    have hw := S.2.2.2.2.2.2
    obtain ⟨e1, e2⟩ := hf z y (wf_h (wf_t hw)) (wf_h hw)
    have k9 := k _ _ _ _ _ _ (S.stk (.inr (.inl (f z y)) :: st2) (wf_c e2 (wf_t (wf_t hw))))
    rw [List.map_cons, show cv G (.inr (.inl (f z y))) = .long (g (Int64.ofInt z) (Int64.ofInt y)) from congrArg _ e1] at k9
    exact row C.1 C.2.1 k9
  · cases hs1
theorem ok_iconst {n : Int} (hd : decode cc pc = .ok (.iconst n, 1)) (ha : n = a) (hr : r32 a) : StepOk own cc nL nm pc 1 (.iconst n, a, b, t) :=
  sh_push (v := .inl a) (fun _ _ _ => rfl) hr (fun C _ k => lv_iconst C.1 C.2.1 hd (by rw [ha]) k)
theorem ok_bipush {n : Int} (hd : decode cc pc = .ok (.bipush n, 2)) (ha : (Int8.ofInt n).toInt32 = Int32.ofInt a) (hr : r32 a) : StepOk own cc nL nm pc 2 (.bipush n, a, b, t) :=
  sh_push (v := .inl a) (fun _ _ _ => rfl) hr (fun C _ k => lv_bipush C.1 C.2.1 hd ha k)
theorem ok_sipush {n : Int} (hd : decode cc pc = .ok (.sipush n, 3)) (ha : (Int16.ofInt n).toInt32 = Int32.ofInt a) (hr : r32 a) : StepOk own cc nL nm pc 3 (.sipush n, a, b, t) :=
  sh_push (v := .inl a) (fun _ _ _ => rfl) hr (fun C _ k => lv_sipush C.1 C.2.1 hd ha k)
theorem ok_lconst {n : Fin 2} (hd : decode cc pc = .ok (.lconst n, 1)) (ha : Int64.ofNat (n : Nat) = Int64.ofInt a) (hr : r64 a) : StepOk own cc nL nm pc 1 (.lconst n, a, b, t) :=
  sh_push (v := .inr (.inl a)) (fun _ _ _ => rfl) hr (fun C _ k => lv_lconst C.1 C.2.1 hd ha k)
theorem ok_null (hd : decode cc pc = .ok (.aconst_null, 1)) : StepOk own cc nL nm pc 1 (.aconst_null, a, b, t) :=
  sh_push (v := .inr (.inr 0)) (fun _ _ _ => rfl) trivial (fun C _ k => lv_null C.1 C.2.1 hd k)
theorem ok_iload_n {n : Fin 4} (hd : decode cc pc = .ok (.iload_n n, 1)) : StepOk own cc nL nm pc 1 (.iload_n n, a, b, t) :=
  sh_ld0 (i := n) (fun _ _ _ => rfl) (fun hx hb hl k => lv_iload_n hx hb hd rfl hl k)
theorem ok_iload {n : Nat} (hd : decode cc pc = .ok (.iload n, 2)) : StepOk own cc nL nm pc 2 (.iload n, a, b, t) :=
  sh_ld0 (i := n) (fun _ _ _ => rfl) (fun hx hb hl k => lv_iload hx hb hd hl k)
theorem ok_lload_n {n : Fin 4} (hd : decode cc pc = .ok (.lload_n n, 1)) : StepOk own cc nL nm pc 1 (.lload_n n, a, b, t) :=
  sh_ld1 (i := n) (fun _ _ _ => rfl) (fun hx hb hl k => lv_lload_n hx hb hd rfl hl k)
theorem ok_lload {n : Nat} (hd : decode cc pc = .ok (.lload n, 2)) : StepOk own cc nL nm pc 2 (.lload n, a, b, t) :=
  sh_ld1 (i := n) (fun _ _ _ => rfl) (fun hx hb hl k => lv_lload hx hb hd hl k)
theorem ok_aload_n {n : Fin 4} (hd : decode cc pc = .ok (.aload_n n, 1)) : StepOk own cc nL nm pc 1 (.aload_n n, a, b, t) :=
  sh_ld2 (i := n) (fun _ _ _ => rfl) (fun {p l e R s m args below meth c H locs cells slots Q ls rest u} hx hb hl k => match u, hl, k with
    | none, hl, k => lv_aload_nN hx hb hd rfl hl k
    | some _, hl, k => lv_aload_n hx hb hd rfl hl k)
theorem ok_aload {n : Nat} (hd : decode cc pc = .ok (.aload n, 2)) : StepOk own cc nL nm pc 2 (.aload n, a, b, t) :=
  sh_ld2 (i := n) (fun _ _ _ => rfl) (fun {p l e R s m args below meth c H locs cells slots Q ls rest u} hx hb hl k => match u, hl, k with
    | none, hl, k => lv_aloadN hx hb hd hl k
    | some _, hl, k => lv_aload hx hb hd hl k)
theorem ok_istore_n {n : Fin 4} (hd : decode cc pc = .ok (.istore_n n, 1)) (hn : (n : Nat) < nL) : StepOk own cc nL nm pc 1 (.istore_n n, a, b, t) :=
  sh_st0 (i := n) (fun _ _ _ => rfl) (fun hx hb hl k => lv_istore_n hx hb hd rfl hl hn rfl k)
theorem ok_istore {n : Nat} (hd : decode cc pc = .ok (.istore n, 2)) (hn : n < nL) : StepOk own cc nL nm pc 2 (.istore n, a, b, t) :=
  sh_st0 (i := n) (fun _ _ _ => rfl) (fun hx hb hl k => lv_istore hx hb hd hl hn rfl k)
theorem ok_lstore_n {n : Fin 4} (hd : decode cc pc = .ok (.lstore_n n, 1)) (hn : (n : Nat) + 1 < nL) : StepOk own cc nL nm pc 1 (.lstore_n n, a, b, t) :=
  sh_st1 (i := n) (fun _ _ _ => rfl) (fun hx hb hl k => lv_lstore_n hx hb hd rfl hl hn rfl k)
theorem ok_lstore {n : Nat} (hd : decode cc pc = .ok (.lstore n, 2)) (hn : n + 1 < nL) : StepOk own cc nL nm pc 2 (.lstore n, a, b, t) :=
  sh_st1 (i := n) (fun _ _ _ => rfl) (fun hx hb hl k => lv_lstore hx hb hd hl hn rfl k)
theorem ok_astore_n {n : Fin 4} (hd : decode cc pc = .ok (.astore_n n, 1)) (hn : (n : Nat) < nL) : StepOk own cc nL nm pc 1 (.astore_n n, a, b, t) :=
  sh_st2 (i := n) (fun _ _ _ => rfl) (fun {p l e R s m args below meth c H locs cells slots Q ls rest u lv} hx hb hl k => match u, k with
    | none, k => lv_astore_nN hx hb hd rfl hl hn rfl k
    | some _, k => lv_astore_n hx hb hd rfl hl hn rfl k)
theorem ok_astore {n : Nat} (hd : decode cc pc = .ok (.astore n, 2)) (hn : n < nL) : StepOk own cc nL nm pc 2 (.astore n, a, b, t) :=
  sh_st2 (i := n) (fun _ _ _ => rfl) (fun {p l e R s m args below meth c H locs cells slots Q ls rest u lv} hx hb hl k => match u, k with
    | none, k => lv_astoreN hx hb hd hl hn rfl k
    | some _, k => lv_astore hx hb hd hl hn rfl k)
theorem ok_iinc {i : Nat} {n : Int} (hd : decode cc pc = .ok (.iinc i n, 3)) (hn : i < nL) : StepOk own cc nL nm pc 3 (.iinc i n, a, b, t) := by
  intro G d p l e R s m args below meth c C n0 s0 L st h L' st' h' hs1 h1 h2 H locs cells slots ls sv Q S k
  simp only [sem1] at hs1
  split at hs1
  · rename_i z hz
    cases hs1
    have hE := C.2.2.2.2.2.1.hE
    obtain ⟨j, hj⟩ := List.getElem?_of_mem (la_mem (G := G) (L := L) (q := (i, cv G (.inl z))).mpr ⟨_, hz, rfl⟩)
    have e1 : Int32.ofInt z + Int32.ofInt n = Int32.ofInt (w32 (z + n)) := by rw [w32_of, Int32.ofInt_add]
    have k9 := fun ls' hl => k _ _ _ _ ls' _ (S.put1 hE (v := .inl (w32 (z + n))) (w32_r _) hl st S.2.2.2.2.2.2)
    rw [S.2.2.2.2.2.1]
    exact lv_iinc C.1 C.2.1 hd S.has hj e1 hn rfl k9
  · cases hs1
theorem ok_iadd (hd : decode cc pc = .ok (.iadd, 1)) : StepOk own cc nL nm pc 1 (.iadd, a, b, t) :=
  sh_bI (g := fun u v => u + v) (fun _ _ _ => rfl) (fun u v _ _ => ⟨by rw [w32_of, Int32.ofInt_add], w32_r _⟩) (fun hx hb k => lv_iadd hx hb hd k)
theorem ok_isub (hd : decode cc pc = .ok (.isub, 1)) : StepOk own cc nL nm pc 1 (.isub, a, b, t) :=
  sh_bI (g := fun u v => u - v) (fun _ _ _ => rfl) (fun u v _ _ => ⟨by rw [w32_of, Int32.ofInt_sub], w32_r _⟩) (fun hx hb k => lv_isub hx hb hd k)
theorem ok_imul (hd : decode cc pc = .ok (.imul, 1)) : StepOk own cc nL nm pc 1 (.imul, a, b, t) :=
  sh_bI (g := fun u v => u * v) (fun _ _ _ => rfl) (fun u v _ _ => ⟨by rw [w32_of, Int32.ofInt_mul], w32_r _⟩) (fun hx hb k => lv_imul hx hb hd k)
theorem ok_iand (hd : decode cc pc = .ok (.iand, 1)) : StepOk own cc nL nm pc 1 (.iand, a, b, t) :=
  sh_bI (g := fun u v => u &&& v) (fun _ _ _ => rfl) (fun u v _ _ => ⟨by unfold iand_; rw [Int32.ofInt_toInt], tI_r _⟩) (fun hx hb k => lv_iand hx hb hd k)
theorem ok_ior (hd : decode cc pc = .ok (.ior, 1)) : StepOk own cc nL nm pc 1 (.ior, a, b, t) :=
  sh_bI (g := fun u v => u ||| v) (fun _ _ _ => rfl) (fun u v _ _ => ⟨by unfold ior_; rw [Int32.ofInt_toInt], tI_r _⟩) (fun hx hb k => lv_ior hx hb hd k)
theorem ok_ishl (hd : decode cc pc = .ok (.ishl, 1)) : StepOk own cc nL nm pc 1 (.ishl, a, b, t) :=
  sh_bI (g := fun u v => u <<< (v &&& 31)) (fun _ _ _ => rfl) (fun u v _ _ => ⟨by unfold ishl_; rw [Int32.ofInt_toInt], tI_r _⟩) (fun hx hb k => lv_ishl hx hb hd k)
theorem ok_ishr (hd : decode cc pc = .ok (.ishr, 1)) : StepOk own cc nL nm pc 1 (.ishr, a, b, t) :=
  sh_bI (g := fun u v => u >>> (v &&& 31)) (fun _ _ _ => rfl) (fun u v _ _ => ⟨by unfold ishr_; rw [Int32.ofInt_toInt], tI_r _⟩) (fun hx hb k => lv_ishr hx hb hd k)
theorem ok_iushr (hd : decode cc pc = .ok (.iushr, 1)) : StepOk own cc nL nm pc 1 (.iushr, a, b, t) :=
  sh_bI (g := fun u v => (u.toUInt32 >>> (v.toUInt32 &&& Int32.toUInt32 31)).toInt32) (fun _ _ _ => rfl) (fun u v _ _ => ⟨by unfold iushr_; rw [Int32.ofInt_toInt], tI_r _⟩) (fun hx hb k => lv_iushr hx hb hd rfl k)
theorem ok_ladd (hd : decode cc pc = .ok (.ladd, 1)) : StepOk own cc nL nm pc 1 (.ladd, a, b, t) :=
  sh_bL (g := fun u v => u + v) (fun _ _ _ => rfl) (fun u v _ _ => ⟨by rw [w64_of, Int64.ofInt_add], w64_r _⟩) (fun hx hb k => lv_ladd hx hb hd k)
theorem ok_lsub (hd : decode cc pc = .ok (.lsub, 1)) : StepOk own cc nL nm pc 1 (.lsub, a, b, t) :=
  sh_bL (g := fun u v => u - v) (fun _ _ _ => rfl) (fun u v _ _ => ⟨by rw [w64_of, Int64.ofInt_sub], w64_r _⟩) (fun hx hb k => lv_lsub hx hb hd k)
theorem ok_lmul (hd : decode cc pc = .ok (.lmul, 1)) : StepOk own cc nL nm pc 1 (.lmul, a, b, t) :=
  sh_bL (g := fun u v => u * v) (fun _ _ _ => rfl) (fun u v _ _ => ⟨by rw [w64_of, Int64.ofInt_mul], w64_r _⟩) (fun hx hb k => lv_lmul hx hb hd k)
theorem ok_lxor (hd : decode cc pc = .ok (.lxor, 1)) : StepOk own cc nL nm pc 1 (.lxor, a, b, t) :=
  sh_bL (g := fun u v => u ^^^ v) (fun _ _ _ => rfl) (fun u v _ _ => ⟨by unfold lxor_; rw [Int64.ofInt_toInt], tL_r _⟩) (fun hx hb k => lv_lxor hx hb hd k)
theorem div32 {x y : Int} (hx : r32 x) (hy : r32 y) : Int32.ofInt (w32 (x.tdiv y)) = Int32.ofInt x / Int32.ofInt y := by
  rw [w32_of]
  apply Int32.toInt.inj
  rw [Int32.toInt_div, t32 hx, t32 hy, Int32.toInt_ofInt]
theorem div64 {x y : Int} (hx : r64 x) (hy : r64 y) : Int64.ofInt (w64 (x.tdiv y)) = Int64.ofInt x / Int64.ofInt y := by
  rw [w64_of]
  apply Int64.toInt.inj
  rw [Int64.toInt_div, t64 hx, t64 hy, Int64.toInt_ofInt]
theorem rem32 {x y : Int} (hx : r32 x) (hy : r32 y) : Int32.ofInt (x.tmod y) = Int32.ofInt x - Int32.ofInt x / Int32.ofInt y * Int32.ofInt y := by
  rw [← div32 hx hy, w32_of, ← Int32.ofInt_mul, ← Int32.ofInt_sub]
  congr 1
  have := Int.tmod_add_mul_tdiv x y
  rw [Int.mul_comm]
  omega
theorem rem64 {x y : Int} (hx : r64 x) (hy : r64 y) : Int64.ofInt (x.tmod y) = Int64.ofInt x - Int64.ofInt x / Int64.ofInt y * Int64.ofInt y := by
  rw [← div64 hx hy, w64_of, ← Int64.ofInt_mul, ← Int64.ofInt_sub]
  congr 1
  have := Int.tmod_add_mul_tdiv x y
  rw [Int.mul_comm]
  omega
theorem tmod_r {x y : Int} (P : Int → Prop) (h : ∀ z, x.natAbs ≥ z.natAbs → (0 ≤ x → 0 ≤ z) → (x ≤ 0 → z ≤ 0) → P z) : P (x.tmod y) := by
  refine h _ ?_ (fun h1 => Int.tmod_nonneg y h1) (fun h1 => ?_)
  · rw [Int.natAbs_tmod]
    exact Nat.mod_le _ _
  · have h2 : (-x).tmod y = -(x.tmod y) := Int.neg_tmod x y
    have h3 := Int.tmod_nonneg (a := -x) y (by omega)
    omega
theorem ok_idiv (hd : decode cc pc = .ok (.idiv, 1)) : StepOk own cc nL nm pc 1 (.idiv, a, b, t) := by
  intro G d p l e R s m args below meth c C n0 s0 L st h L' st' h' hs1 h1 h2 H locs cells slots ls sv Q S k
  simp only [sem1] at hs1
  split at hs1
  · rename_i y z st2
    split at hs1
    · cases hs1
    · rename_i hy
      cases hs1
      rw [S.2.2.2.2.2.1]
      have hw := S.2.2.2.2.2.2
      have r1 := wf_h (wf_t hw)
      have r2 := wf_h hw
      have k9 := k _ _ _ _ _ _ (S.stk (.inl (w32 (z.tdiv y)) :: st2) (wf_c (w32_r _) (wf_t (wf_t hw))))
      rw [List.map_cons, show cv G (.inl (w32 (z.tdiv y))) = .int (Int32.ofInt z / Int32.ofInt y) from congrArg _ (div32 r1 r2)] at k9
      exact lv_idiv C.1 C.2.1 hd (by rw [show (0 : Int32) = Int32.ofInt 0 from rfl, i32_inj r2 (by unfold r32; omega)]; exact hy) k9
  · cases hs1
theorem ok_irem (hd : decode cc pc = .ok (.irem, 1)) : StepOk own cc nL nm pc 1 (.irem, a, b, t) := by
  intro G d p l e R s m args below meth c C n0 s0 L st h L' st' h' hs1 h1 h2 H locs cells slots ls sv Q S k
  simp only [sem1] at hs1
  split at hs1
  · rename_i y z st2
    split at hs1
    · cases hs1
    · rename_i hy
      cases hs1
      rw [S.2.2.2.2.2.1]
      have hw := S.2.2.2.2.2.2
      have r1 := wf_h (wf_t hw)
      have r2 := wf_h hw
      have r3 : r32 (z.tmod y) := tmod_r r32 (fun u hu h3 h4 => by unfold wfv r32 at r1; unfold r32; omega)
      have k9 := k _ _ _ _ _ _ (S.stk (.inl (z.tmod y) :: st2) (wf_c r3 (wf_t (wf_t hw))))
      rw [List.map_cons, show cv G (.inl (z.tmod y)) = .int (Int32.ofInt z - Int32.ofInt z / Int32.ofInt y * Int32.ofInt y) from congrArg _ (rem32 r1 r2)] at k9
      exact lv_irem C.1 C.2.1 hd (by rw [show (0 : Int32) = Int32.ofInt 0 from rfl, i32_inj r2 (by unfold r32; omega)]; exact hy) k9
  · cases hs1
theorem ok_ldiv (hd : decode cc pc = .ok (.ldiv, 1)) : StepOk own cc nL nm pc 1 (.ldiv, a, b, t) := by
  intro G d p l e R s m args below meth c C n0 s0 L st h L' st' h' hs1 h1 h2 H locs cells slots ls sv Q S k
  simp only [sem1] at hs1
  split at hs1
  · rename_i y z st2
    split at hs1
    · cases hs1
    · rename_i hy
      cases hs1
      rw [S.2.2.2.2.2.1]
      have hw := S.2.2.2.2.2.2
      have r1 := wf_h (wf_t hw)
      have r2 := wf_h hw
      have k9 := k _ _ _ _ _ _ (S.stk (.inr (.inl (w64 (z.tdiv y))) :: st2) (wf_c (w64_r _) (wf_t (wf_t hw))))
      rw [List.map_cons, show cv G (.inr (.inl (w64 (z.tdiv y)))) = .long (Int64.ofInt z / Int64.ofInt y) from congrArg _ (div64 r1 r2)] at k9
      exact lv_ldiv C.1 C.2.1 hd (by rw [show (0 : Int64) = Int64.ofInt 0 from rfl, i64_inj r2 (by unfold r64; omega)]; exact hy) k9
  · cases hs1
theorem ok_lrem (hd : decode cc pc = .ok (.lrem, 1)) : StepOk own cc nL nm pc 1 (.lrem, a, b, t) := by
  intro G d p l e R s m args below meth c C n0 s0 L st h L' st' h' hs1 h1 h2 H locs cells slots ls sv Q S k
  simp only [sem1] at hs1
  split at hs1
  · rename_i y z st2
    split at hs1
    · cases hs1
    · rename_i hy
      cases hs1
      rw [S.2.2.2.2.2.1]
      have hw := S.2.2.2.2.2.2
      have r1 := wf_h (wf_t hw)
      have r2 := wf_h hw
      have r3 : r64 (z.tmod y) := tmod_r r64 (fun u hu h3 h4 => by unfold wfv r64 at r1; unfold r64; omega)
      have k9 := k _ _ _ _ _ _ (S.stk (.inr (.inl (z.tmod y)) :: st2) (wf_c r3 (wf_t (wf_t hw))))
      rw [List.map_cons, show cv G (.inr (.inl (z.tmod y))) = .long (Int64.ofInt z - Int64.ofInt z / Int64.ofInt y * Int64.ofInt y) from congrArg _ (rem64 r1 r2)] at k9
      exact lv_lrem C.1 C.2.1 hd (by rw [show (0 : Int64) = Int64.ofInt 0 from rfl, i64_inj r2 (by unfold r64; omega)]; exact hy) k9
  · cases hs1
theorem i2l_eq {z : Int} (h : r32 z) : (Int32.ofInt z).toInt64 = Int64.ofInt z := by
  apply Int64.toInt.inj
  rw [Int32.toInt_toInt64, t32 h, t64 (by unfold r32 at h; unfold r64; omega)]
theorem l2i_eq (z : Int) : (Int64.ofInt z).toInt32 = Int32.ofInt (w32 z) := by
  rw [w32_of, Int64.toInt32_ofInt]
theorem i2b_eq (z : Int) : (Int32.ofInt z).toInt8.toInt32 = Int32.ofInt (w8 z) := by
  apply Int32.toInt.inj
  rw [Int8.toInt_toInt32, t32 (by unfold w8 r32; omega), Int32.toInt8_ofInt, Int8.toInt_ofInt, show Int8.size = 256 from rfl]
  unfold w8 Int.bmod
  simp only
  split <;> omega
theorem i2c_eq {z : Int} (h : r32 z) : ((Int32.ofInt z).toUInt32 % 65536).toInt32 = Int32.ofInt (w16 z) := by
  rw [pk_char]
  unfold nI w16
  apply Int32.toInt.inj
  have e1 : ((Int32.ofInt z).toBitVec.toNat : Int) = z % 4294967296 := by
    show ((BitVec.ofInt 32 z).toNat : Int) = _
    rw [BitVec.toNat_ofInt]
    omega
  have e2 : (((Int32.ofInt z).toBitVec.toNat % 65536 : Nat) : Int) = z % 65536 := by omega
  rw [t32 (by unfold r32; omega), Int32.toInt_ofNat_of_lt (by omega), e2]
theorem ok_ineg (hd : decode cc pc = .ok (.ineg, 1)) : StepOk own cc nL nm pc 1 (.ineg, a, b, t) := by
  intro G d p l e R s m args below meth c C n0 s0 L st h L' st' h' hs1 h1 h2 H locs cells slots ls sv Q S k
  simp only [sem1] at hs1
  split at hs1
  · rename_i z st2
    cases hs1
    rw [S.2.2.2.2.2.1]
    have hw := S.2.2.2.2.2.2
    have r1 := wf_h hw
    have k9 := k _ _ _ _ _ _ (S.stk (.inl (w32 (-z)) :: st2) (wf_c (w32_r _) (wf_t hw)))
    rw [List.map_cons] at k9
    exact lv_ineg C.1 C.2.1 hd (by rw [← Int32.ofInt_neg, ← w32_of]; exact k9)
  · cases hs1
theorem ok_i2l (hd : decode cc pc = .ok (.i2l, 1)) : StepOk own cc nL nm pc 1 (.i2l, a, b, t) := by
  intro G d p l e R s m args below meth c C n0 s0 L st h L' st' h' hs1 h1 h2 H locs cells slots ls sv Q S k
  simp only [sem1] at hs1
  split at hs1
  · rename_i z st2
    cases hs1
    rw [S.2.2.2.2.2.1]
    have hw := S.2.2.2.2.2.2
    have r1 := wf_h hw
    have k9 := k _ _ _ _ _ _ (S.stk (.inr (.inl z) :: st2) (wf_c (by unfold wfv r32 at r1; show r64 z; unfold r64; omega) (wf_t hw)))
    rw [List.map_cons] at k9
    exact lv_i2l C.1 C.2.1 hd (i2l_eq r1) k9
  · cases hs1
theorem ok_l2i (hd : decode cc pc = .ok (.l2i, 1)) : StepOk own cc nL nm pc 1 (.l2i, a, b, t) := by
  intro G d p l e R s m args below meth c C n0 s0 L st h L' st' h' hs1 h1 h2 H locs cells slots ls sv Q S k
  simp only [sem1] at hs1
  split at hs1
  · rename_i z st2
    cases hs1
    rw [S.2.2.2.2.2.1]
    have hw := S.2.2.2.2.2.2
    have r1 := wf_h hw
    have k9 := k _ _ _ _ _ _ (S.stk (.inl (w32 z) :: st2) (wf_c (w32_r _) (wf_t hw)))
    rw [List.map_cons] at k9
    exact lv_l2i C.1 C.2.1 hd (l2i_eq z) k9
  · cases hs1
theorem ok_i2b (hd : decode cc pc = .ok (.i2b, 1)) : StepOk own cc nL nm pc 1 (.i2b, a, b, t) := by
  intro G d p l e R s m args below meth c C n0 s0 L st h L' st' h' hs1 h1 h2 H locs cells slots ls sv Q S k
  simp only [sem1] at hs1
  split at hs1
  · rename_i z st2
    cases hs1
    rw [S.2.2.2.2.2.1]
    have hw := S.2.2.2.2.2.2
    have r1 := wf_h hw
    have k9 := k _ _ _ _ _ _ (S.stk (.inl (w8 z) :: st2) (wf_c (by show r32 (w8 z); unfold w8 r32; omega) (wf_t hw)))
    rw [List.map_cons] at k9
    exact lv_i2b C.1 C.2.1 hd (i2b_eq z) k9
  · cases hs1
theorem ok_i2c (hd : decode cc pc = .ok (.i2c, 1)) : StepOk own cc nL nm pc 1 (.i2c, a, b, t) := by
  intro G d p l e R s m args below meth c C n0 s0 L st h L' st' h' hs1 h1 h2 H locs cells slots ls sv Q S k
  simp only [sem1] at hs1
  split at hs1
  · rename_i z st2
    cases hs1
    rw [S.2.2.2.2.2.1]
    have hw := S.2.2.2.2.2.2
    have r1 := wf_h hw
    have k9 := k _ _ _ _ _ _ (S.stk (.inl (w16 z) :: st2) (wf_c (by show r32 (w16 z); unfold w16 r32; omega) (wf_t hw)))
    rw [List.map_cons] at k9
    exact lv_i2c C.1 C.2.1 hd (i2c_eq r1) k9
  · cases hs1
theorem lcmp_eq {x y : Int} (hx : r64 x) (hy : r64 y) : Int32.ofInt (lcmp_ x y) = lg_cmp (Int64.ofInt x) (Int64.ofInt y) := by
  unfold lcmp_ lg_cmp
  simp only [gt_iff_lt, i64_lt hy hx, i64_inj hx hy]
  rcases Int.lt_trichotomy x y with q | q | q
  · rw [if_pos q, if_neg (by omega), if_neg (by omega)]; rfl
  · rw [if_neg (by omega), if_pos q, if_neg (by omega), if_pos q]; rfl
  · rw [if_neg (by omega), if_neg (by omega), if_pos q]; rfl
theorem ok_lcmp (hd : decode cc pc = .ok (.lcmp, 1)) : StepOk own cc nL nm pc 1 (.lcmp, a, b, t) := by
  intro G d p l e R s m args below meth c C n0 s0 L st h L' st' h' hs1 h1 h2 H locs cells slots ls sv Q S k
  simp only [sem1] at hs1
  split at hs1
  · rename_i y z st2
    cases hs1
    rw [S.2.2.2.2.2.1]
    have hw := S.2.2.2.2.2.2
    have r1 := wf_h (wf_t hw)
    have r2 := wf_h hw
    have k9 := k _ _ _ _ _ _ (S.stk (.inl (lcmp_ z y) :: st2) (wf_c (by show r32 (lcmp_ z y); unfold lcmp_ r32; split <;> (try split) <;> omega) (wf_t (wf_t hw))))
    rw [List.map_cons, show cv G (.inl (lcmp_ z y)) = .int (lg_cmp (Int64.ofInt z) (Int64.ofInt y)) from congrArg _ (lcmp_eq r1 r2)] at k9
    exact W.lcmp C.1 C.2.1 hd k9
  · cases hs1
theorem ok_dup (hd : decode cc pc = .ok (.dup, 1)) : StepOk own cc nL nm pc 1 (.dup, a, b, t) := by
  intro G d p l e R s m args below meth c C n0 s0 L st h L' st' h' hs1 h1 h2 H locs cells slots ls sv Q S k
  simp only [sem1] at hs1
  split at hs1
  · rename_i z st2
    cases hs1
    rw [S.2.2.2.2.2.1]
    have hw := S.2.2.2.2.2.2
    exact lv_dup C.1 C.2.1 hd rfl (k _ _ _ _ _ _ (S.stk _ (wf_c (wf_h hw) hw)))
  · rename_i z st2
    cases hs1
    rw [S.2.2.2.2.2.1]
    have hw := S.2.2.2.2.2.2
    exact lv_dup C.1 C.2.1 hd (cat_cr C.2.2.2.2.2.1.hE z) (k _ _ _ _ _ _ (S.stk _ (wf_c (wf_h hw) hw)))
  · cases hs1
theorem ok_pop (hd : decode cc pc = .ok (.pop, 1)) : StepOk own cc nL nm pc 1 (.pop, a, b, t) := by
  intro G d p l e R s m args below meth c C n0 s0 L st h L' st' h' hs1 h1 h2 H locs cells slots ls sv Q S k
  simp only [sem1] at hs1
  split at hs1
  · rename_i z st2
    cases hs1
    rw [S.2.2.2.2.2.1]
    have hw := S.2.2.2.2.2.2
    exact lv_pop (va := .int (Int32.ofInt z)) C.1 C.2.1 hd rfl (k _ _ _ _ _ _ (S.stk _ (wf_t hw)))
  · rename_i z st2
    cases hs1
    rw [S.2.2.2.2.2.1]
    have hw := S.2.2.2.2.2.2
    exact lv_pop (va := cr G z) C.1 C.2.1 hd (cat_cr C.2.2.2.2.2.1.hE z) (k _ _ _ _ _ _ (S.stk _ (wf_t hw)))
  · cases hs1
theorem ok_dup_x1 (hd : decode cc pc = .ok (.dup_x1, 1)) : StepOk own cc nL nm pc 1 (.dup_x1, a, b, t) := by
  intro G d p l e R s m args below meth c C n0 s0 L st h L' st' h' hs1 h1 h2 H locs cells slots ls sv Q S k
  simp only [sem1] at hs1
  split at hs1
  · rename_i z y st2
    cases hs1
    rw [S.2.2.2.2.2.1]
    have hw := S.2.2.2.2.2.2
    exact lv_dup_x1 (va := .int (Int32.ofInt z)) (vb := cr G y) C.1 C.2.1 hd rfl (cat_cr C.2.2.2.2.2.1.hE y) (k _ _ _ _ _ _ (S.stk (.inl z :: .inr (.inr y) :: .inl z :: st2) (wf_c (wf_h hw) (wf_c trivial (wf_c (wf_h hw) (wf_t (wf_t hw)))))))
  · rename_i z y st2
    cases hs1
    rw [S.2.2.2.2.2.1]
    have hw := S.2.2.2.2.2.2
    exact lv_dup_x1 (va := cr G z) (vb := cr G y) C.1 C.2.1 hd (cat_cr C.2.2.2.2.2.1.hE z) (cat_cr C.2.2.2.2.2.1.hE y) (k _ _ _ _ _ _ (S.stk (.inr (.inr z) :: .inr (.inr y) :: .inr (.inr z) :: st2) (wf_c trivial (wf_c trivial (wf_c trivial (wf_t (wf_t hw)))))))
  · cases hs1
theorem ok_dup2 (hd : decode cc pc = .ok (.dup2, 1)) : StepOk own cc nL nm pc 1 (.dup2, a, b, t) := by
  intro G d p l e R s m args below meth c C n0 s0 L st h L' st' h' hs1 h1 h2 H locs cells slots ls sv Q S k
  simp only [sem1] at hs1
  split at hs1
  · rename_i z y st2
    cases hs1
    rw [S.2.2.2.2.2.1]
    have hw := S.2.2.2.2.2.2
    exact lv_dup2_11 (va := .int (Int32.ofInt z)) (vb := cr G y) C.1 C.2.1 hd rfl (cat_cr C.2.2.2.2.2.1.hE y) (k _ _ _ _ _ _ (S.stk (.inl z :: .inr (.inr y) :: .inl z :: .inr (.inr y) :: st2) (wf_c (wf_h hw) (wf_c trivial hw))))
  · cases hs1
end INS
