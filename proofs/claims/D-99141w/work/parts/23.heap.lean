/-! ===== instructions on the heap: the relation kept ===== -/
theorem asc_mem : ∀ {t : List (Int × Int)} {x y : Int}, asc t x = some y → (x, y) ∈ t := by
  intro t
  induction t with
  | nil => intro x y h; simp [asc] at h
  | cons p t ih =>
    obtain ⟨a, b⟩ := p
    intro x y h
    unfold asc at h
    split at h
    · rename_i e
      cases h
      rw [e]
      exact List.mem_cons_self
    · exact List.mem_cons_of_mem _ (ih h)
def kdT : FieldType → Int
  | .long => 1
  | .object _ => 2
  | .array _ => 2
  | _ => 0
theorem cf_cv (G : GG) (ty : FieldType) (z : Int) : cf G ty z = cv G (ofK (kdT ty) z) := by cases ty <;> rfl
theorem wf_ofK {ty : FieldType} {z : Int} (h : inR ty z) : wfv (ofK (kdT ty) z) := by
  cases ty
  all_goals first
    | exact h
    | exact trivial
    | (simp only [inR] at h; show r32 z; unfold r32; omega)
theorem cr_pos {G : GG} {z : Int} (h : 0 < z) : cr G z = .ref (G.1 + (z.toNat - 1)) := by
  unfold cr
  rw [if_neg (by omega), if_neg (by omega)]
theorem cr_inj {G : GG} (hE : ∀ z, z < 0 → G.2.1 z = .null ∨ ∃ q, q < G.1 ∧ G.2.1 z = .ref q) {z z' : Int} {q q' : Nat} (hz : 0 < z) (h1 : cr G z = .ref q) (h2 : cr G z' = .ref q') (hn : z' ≠ z) : q' ≠ q := by
  rw [cr_pos hz] at h1
  cases h1
  unfold cr at h2
  split at h2
  · cases h2
  · split at h2
    · rename_i h
      rcases hE z' h with e | ⟨q2, e1, e2⟩
      · rw [e] at h2; cases h2
      · rw [e2] at h2; cases h2; omega
    · cases h2; omega
theorem RH.upd {G : GG} {s : State} {h h' : AH} {H H1 : Heap} {z : Int} {q : Nat} (S : RH G s h H) (hE : ∀ z, z < 0 → G.2.1 z = .null ∨ ∃ q, q < G.1 ∧ G.2.1 z = .ref q) (hz : 0 < z) (hq : cr G z = .ref q) (h1 : H1.size = H.size) (h2 : ∀ y, y ≠ q → H1[y]? = H[y]?)
    (hn : ah_n h' = ah_n h) (ht : ∀ y, ah_t h' y = ah_t h y) (hm : ∀ y k, y ≠ z → ah_m h' y k = ah_m h y k) (hO : 0 < (ah_t h z).1 → cellO G h' H1 z) (hA : (ah_t h z).1 < 0 → cellA G s h' H1 z) : RH G s h' H1 := by
  obtain ⟨a1, a2, a3, a4, a5, a6⟩ := S
  have hqb : G.1 ≤ q := by rw [cr_pos hz] at hq; cases hq; omega
  refine ⟨by rw [h1, hn]; exact a1, by rw [hn]; exact a2, fun y hy => by rw [ht]; rw [hn] at hy; exact a3 y hy, fun y hy => ?_, fun y hy => ?_, fun x hx => ?_⟩
  · rw [ht] at hy
    by_cases e : y = z
    · subst e; exact hO hy
    · obtain ⟨q2, r, b1, b2, b3, b4⟩ := a4 y hy
      unfold cellO
      rw [ht]
      refine ⟨q2, r, b1, b2, ?_, fun k hk => by rw [hm y k e]; exact b4 k hk⟩
      have h3 := b3.kept (h2 q2 (cr_inj hE hz hq b1 e))
      exact h3.to (fun k _ => by rw [hm y k e])
  · rw [ht] at hy
    by_cases e : y = z
    · subst e; exact hA hy
    · obtain ⟨q2, cA, ty, b1, b2, b3, b4, b5, b6, b7, b8⟩ := a5 y hy
      unfold cellA
      rw [ht]
      refine ⟨q2, cA, ty, b1, b2, b3, b4, ?_, b6, b7, fun k hk => by rw [hm y k e]; exact b8 k hk⟩
      rw [h2 q2 (cr_inj hE hz hq b1 e), b5]
      exact congrArg some (congrArg (arrV cA _) (funext fun i => by rw [hm y i e]))
  · obtain ⟨cf1, kf, fi, f, a, cell, c1, c2, c3, c4, c5, c6, c7, c8⟩ := a6 x hx
    exact ⟨cf1, kf, fi, f, a, cell, c1, c2, c3, c4, by rw [h2 a (fun e => c8 (by rw [e]; exact hqb))]; exact c5, c6, c7, c8⟩
theorem RH.new {G : GG} {s : State} {h : AH} {H H1 : Heap} {t : Int × Int} {N : Int} (S : RH G s h H) (hE : ∀ z, z < 0 → G.2.1 z = .null ∨ ∃ q, q < G.1 ∧ G.2.1 z = .ref q) (h1 : H1.size = H.size + 1) (h2 : ∀ y, y < H.size → H1[y]? = H[y]?)
    (hO : 0 < t.1 → cellO G (ah_new h t N) H1 (ah_n h)) (hA : t.1 < 0 → cellA G s (ah_new h t N) H1 (ah_n h)) : RH G s (ah_new h t N) H1 := by
  obtain ⟨a1, a2, a3, a4, a5, a6⟩ := S
  have ht : ∀ y, ah_t (ah_new h t N) y = if y = ah_n h then t else ah_t h y := fun y => rfl
  have hm : ∀ y k, ah_m (ah_new h t N) y k = if y = ah_n h then 0 else ah_m h y k := fun y k => rfl
  have hn : ah_n (ah_new h t N) = ah_n h + 1 := rfl
  refine ⟨by rw [h1, hn]; omega, by rw [hn]; omega, fun y hy => ?_, fun y hy => ?_, fun y hy => ?_, fun x hx => ?_⟩
  · rw [hn] at hy
    rw [ht, if_neg (by omega)]
    exact a3 y (by omega)
  · rw [ht] at hy
    by_cases e : y = ah_n h
    · subst e; rw [if_pos rfl] at hy; exact hO hy
    · rw [if_neg e] at hy
      obtain ⟨q2, r, b1, b2, b3, b4⟩ := a4 y hy
      unfold cellO
      rw [ht, if_neg e]
      have hlt : q2 < H.size := by obtain ⟨cell, c1, -⟩ := b3; exact (Array.getElem?_eq_some_iff.mp c1).1
      refine ⟨q2, r, b1, b2, ?_, fun k hk => by rw [hm, if_neg e]; exact b4 k hk⟩
      exact (b3.kept (h2 q2 hlt)).to (fun k _ => by rw [hm, if_neg e])
  · rw [ht] at hy
    by_cases e : y = ah_n h
    · subst e; rw [if_pos rfl] at hy; exact hA hy
    · rw [if_neg e] at hy
      obtain ⟨q2, cA, ty, b1, b2, b3, b4, b5, b6, b7, b8⟩ := a5 y hy
      unfold cellA
      rw [ht, if_neg e]
      have hlt : q2 < H.size := (Array.getElem?_eq_some_iff.mp b5).1
      refine ⟨q2, cA, ty, b1, b2, b3, b4, ?_, b6, b7, fun k hk => by rw [hm, if_neg e]; exact b8 k hk⟩
      rw [h2 q2 hlt, b5]
      exact congrArg some (congrArg (arrV cA _) (funext fun i => by rw [hm, if_neg e]))
  · obtain ⟨cf1, kf, fi, f, a, cell, c1, c2, c3, c4, c5, c6, c7, c8⟩ := a6 x hx
    exact ⟨cf1, kf, fi, f, a, cell, c1, c2, c3, c4, by rw [h2 a (Array.getElem?_eq_some_iff.mp c5).1]; exact c5, c6, c7, c8⟩
theorem RH.next {G : GG} {s : State} {h : AH} {H : Heap} (S : RH G s h H) : cr G (ah_n h) = .ref H.size := by
  obtain ⟨a1, a2, -⟩ := S
  rw [cr_pos (by omega), show G.1 + ((ah_n h).toNat - 1) = H.size by omega]
theorem cf_0 (G : GG) (ty : FieldType) (hty : ty ≠ .float ∧ ty ≠ .double) : cf G ty 0 = defaultValue ty := by
  cases ty <;> first | rfl | exact absurd rfl hty.1 | exact absurd rfl hty.2
theorem inR_0 (ty : FieldType) : inR ty 0 := by
  cases ty <;> simp [inR, r32, r64]
/-! fields -/
def FLink (own : String) (idx : Nat) (decl nm ds : String) : Prop := ∃ ref, (Cond.fieldLink own idx ref nm ds ∈ lw_all ∨ ∃ host, Cond.fieldLinkNest own idx ref nm ds host ∈ lw_tbl) ∧ (ref = decl ∨ Cond.sameField ref decl nm ds ∈ lw_all)
def FOk (own : String) (idx : Nat) (x : Int × Int) (r : vw_C) : Prop := gcl[x.1.toNat - 1]? = some r ∧ 0 < x.1 ∧ 0 ≤ x.2 ∧ x.2.toNat < r.2.2 ∧ FLink own idx (r.2.1 x.2.toNat).1 (r.2.1 x.2.toNat).2.1 (r.2.1 x.2.toNat).2.2.1
theorem FLink.same {own : String} {idx : Nat} {decl nm ds ref : String} {s : State} {args : Array Value} (hts : ∀ w ∈ lw_all, w.before args s = true) (h : ref = decl ∨ Cond.sameField ref decl nm ds ∈ lw_all) : ∀ x, s.fieldFound? decl nm ds = some x → s.fieldFound? ref nm ds = some x := by
  rcases h with h | h
  · rw [h]; exact fun _ h => h
  · exact u_same (hts _ h)
section HEAP
variable {own : String} {cc : ByteArray} {nL : Nat} {nm : String} {pc : Nat} {a b : Int} {t : List (Int × Int)}
theorem ok_getfield {idx : Nat} (hd : decode cc pc = .ok (.getfield idx, 3)) (ht : ∀ x ∈ t, ∃ r, FOk own idx x r ∧ kdT (gty (x.1.toNat - 1) x.2.toNat) = a) : StepOk own cc nL nm pc 3 (.getfield idx, a, b, t) := by
  intro G d p l e R s m args below meth c C n0 s0 L st h L' st' h' hs1 h1 h2 H locs cells slots ls sv Q S k
  simp only [sem1] at hs1
  split at hs1
  · rename_i z st2
    split at hs1
    · rename_i k1 hk1
      cases hs1
      obtain ⟨r, ⟨hr, hp, hk0, hkN, ref, hl, hsm⟩, hkd⟩ := ht _ (asc_mem hk1)
      obtain ⟨hx, hb, hml, hown, hts, hKS, hlk, hnm, hfr, hlo⟩ := C
      dsimp only at hr hp hk0 hkN hl hsm hkd
      obtain ⟨q, r2, hq, hr2, ⟨cell, q1, q2, q3, q4⟩, hin⟩ := S.1.2.2.2.1 z hp
      obtain rfl := Option.some.inj (hr.symm.trans hr2)
      obtain ⟨hin9, hty9, hnm9⟩ := gcl_ok _ _ hr
      obtain ⟨hSl, hfc, kC, hkC, hkind⟩ := hKS.1.1 _ _ hr
      obtain ⟨cf_, kf, fi, f, hi, hsl⟩ := hSl k1.toNat hkN
      have hst := (u_facts hfc hkC (u_lays hts hin9 hkN) hi).1
      have e0 : ((k1.toNat : Nat) : Int) = k1 := by omega
      have hv : cell.slots[f.slot]? = some (cv G (ofK a (ah_m h z k1))) := by
        rw [hsl, q4 _ hkN]
        show some (cf G (gty ((ah_t h z).1.toNat - 1) k1.toNat) (ah_m h z ((k1.toNat : Nat) : Int))) = _
        rw [cf_cv, hkd, e0]
      have hw := S.2.2.2.2.2.2
      have k9 := k _ _ _ _ _ _ (S.stk (ofK a (ah_m h z k1) :: st2) (wf_c (by rw [← hkd, ← e0]; exact wf_ofK (hin _ hkN)) (wf_t hw)))
      rw [S.2.2.2.2.2.1, List.map_cons, show cv G (.inr (.inr z)) = .ref q from hq]
      rw [List.map_cons] at k9
      have hsame := FLink.same (idx := idx) (own := own) hts hsm
      rcases hl with hl | ⟨host, hl⟩
      · exact W.getf hx hb hown (hts _ hl) (hsame _ hi) hst q1 (by rw [q3]; exact fun h => by cases h) hv (g := F0 m pc ls _) rfl rfl hd k9
      · exact va_Wgetf hx hb hown (va_Nw.use rfl (hKS.2.1 _ hl rfl)) (hsame _ hi) hst q1 (by rw [q3]; exact fun h => by cases h) hv (g := F0 m pc ls _) rfl rfl hd k9
    · cases hs1
  · cases hs1
/-- what kind of value may go to a field of a type -/
def kdP : FieldType → Int
  | .long => 1
  | .object _ => 2
  | .array _ => 2
  | .boolean => 3
  | .byte => 4
  | .int => 0
  | _ => 9
theorem toK_ok {G : GG} (hE : ∀ z, z < 0 → G.2.1 z = .null ∨ ∃ q, q < G.1 ∧ G.2.1 z = .ref q) {ty : FieldType} {v : AV} {x : Int} (hv : wfv v) (h : toK (kdP ty) v = some x) : inR ty x ∧ cv G v = cf G ty x ∧ narrow ty (cv G v) = cv G v ∧ fits ty (cv G v) = true := by
  have href : ∀ z, narrow ty (cr G z) = cr G z ∧ ((∃ C, ty = .object C) ∨ (∃ t, ty = .array t) → fits ty (cr G z) = true) := by
    intro z
    obtain ⟨u, hu⟩ := cr_rf hE z
    rw [hu]
    refine ⟨by cases ty <;> cases u <;> rfl, ?_⟩
    rintro (⟨C, rfl⟩ | ⟨t, rfl⟩) <;> cases u <;> rfl
  match v, h, hv with
  | .inl z, h, hv =>
    cases ty <;> simp [toK, kdP] at h
    · obtain ⟨h1, h2⟩ := h
      subst h2
      refine ⟨h1, rfl, ?_, ?_⟩
      · rcases h1 with ⟨h1, h3⟩
        show Value.int (Int32.ofInt z).toInt8.toInt32 = _
        rw [i2b_eq, show w8 z = z by unfold w8; omega]
        rfl
      · rcases h1 with ⟨h1, h3⟩
        have r0 : r32 z := by unfold r32; omega
        have e1 : (-128 : Int32) ≤ Int32.ofInt z := (i32_le (x := -128) (by unfold r32; omega) r0).mpr h1
        have e2 : Int32.ofInt z ≤ (127 : Int32) := (i32_le (y := 127) r0 (by unfold r32; omega)).mpr (by omega)
        simp [cv, fits, e1, e2]
    · subst h
      exact ⟨hv, rfl, rfl, rfl⟩
    · obtain ⟨h1, h2⟩ := h
      subst h2
      rcases h1 with rfl | rfl
      · exact ⟨Or.inl rfl, rfl, rfl, rfl⟩
      · exact ⟨Or.inr rfl, rfl, rfl, rfl⟩
  | .inr (.inl z), h, hv =>
    cases ty <;> simp [toK, kdP] at h
    subst h
    exact ⟨hv, rfl, rfl, rfl⟩
  | .inr (.inr z), h, hv =>
    cases ty <;> simp [toK, kdP] at h
    · subst h
      exact ⟨trivial, rfl, (href z).1, (href z).2 (Or.inl ⟨_, rfl⟩)⟩
    · subst h
      exact ⟨trivial, rfl, (href z).1, (href z).2 (Or.inr ⟨_, rfl⟩)⟩
end HEAP
