section CST
variable {own : String} {cc : ByteArray} {nL : Nat} {nm : String} {pc : Nat} {a b : Int} {t : List (Int × Int)} {x : AI}
theorem ok_ldcI {idx : Nat} (hd : decode cc pc = .ok (.ldc idx, 2)) (hb0 : b = 0) (hr : r32 a) (w : Cond.constant own idx (Int32.ofInt a) ∈ lw_all) : StepOk own cc nL nm pc 2 (.ldc idx, a, b, t) :=
  sh_push (v := .inl a) (fun _ _ _ => by simp only [sem1, hb0]; rfl) hr (fun C _ k => lv_ldc C.1 C.2.1 C.2.2.2.1 (C.2.2.2.2.1 _ w) hd k)
theorem ok_ldc_wI {idx : Nat} (hd : decode cc pc = .ok (.ldc_w idx, 3)) (hb0 : b = 0) (hr : r32 a) (w : Cond.constant own idx (Int32.ofInt a) ∈ lw_all) : StepOk own cc nL nm pc 3 (.ldc_w idx, a, b, t) :=
  sh_push (v := .inl a) (fun _ _ _ => by simp only [sem1, hb0]; rfl) hr (fun C _ k => lv_ldcw C.1 C.2.1 C.2.2.2.1 (C.2.2.2.2.1 _ w) hd k)
theorem ok_ldc2 {idx : Nat} (hd : decode cc pc = .ok (.ldc2_w idx, 3)) (hr : r64 a) (w : Cond.constantLong own idx (Int64.ofInt a) ∈ lw_all) : StepOk own cc nL nm pc 3 (.ldc2_w idx, a, b, t) :=
  sh_push (v := .inr (.inl a)) (fun _ _ _ => rfl) hr (fun C _ k => lv_ldc2 C.1 C.2.1 C.2.2.2.1 (C.2.2.2.2.1 _ w) hd k)
theorem cr_neg {G : GG} {z : Int} (h : z < 0) : cr G z = G.2.1 z := by
  unfold cr
  rw [if_neg (by omega), if_pos h]
theorem ok_ldcS {idx : Nat} {tx : String} (hd : decode cc pc = .ok (.ldc idx, 2)) (hb0 : b = 2) (w : (own, idx, tx, a) ∈ gss) : StepOk own cc nL nm pc 2 (.ldc idx, a, b, t) :=
  sh_push (v := .inr (.inr a)) (fun _ _ _ => by simp only [sem1, hb0]; rfl) trivial (fun {G d p l e R s m args below meth c h H locs cells slots Q ls rest} C _ k => by
    have K := C.2.2.2.2.2.1
    obtain ⟨q, e1, e2⟩ := K.2.2.2.2.1 _ w
    have e3 : a < 0 := K.2.2.2.2.2.2.1 _ w
    rw [show cv G (.inr (.inr a)) = .ref q from by show cr G a = _; rw [cr_neg e3]; exact e1] at k
    exact va_ldcS C.1 C.2.1 C.2.2.2.1 e2 hd k)
theorem ok_ldc_wS {idx : Nat} {tx : String} (hd : decode cc pc = .ok (.ldc_w idx, 3)) (hb0 : b = 2) (w : (own, idx, tx, a) ∈ gss) : StepOk own cc nL nm pc 3 (.ldc_w idx, a, b, t) :=
  sh_push (v := .inr (.inr a)) (fun _ _ _ => by simp only [sem1, hb0]; rfl) trivial (fun {G d p l e R s m args below meth c h H locs cells slots Q ls rest} C _ k => by
    have K := C.2.2.2.2.2.1
    obtain ⟨q, e1, e2⟩ := K.2.2.2.2.1 _ w
    have e3 : a < 0 := K.2.2.2.2.2.2.1 _ w
    rw [show cv G (.inr (.inr a)) = .ref q from by show cr G a = _; rw [cr_neg e3]; exact e1] at k
    intro T hT X
    obtain ⟨t9, a1, b1⟩ := k T hT X
    exact ⟨t9, X.ldcStringW C.1 C.2.2.2.1 (text := tx) (a := q) e2.1 e2.2 (g := F0 m pc ls rest) rfl (by rw [C.2.1]; exact hd) t9 a1, b1⟩)
theorem ok_ldcM {idx : Nat} (hd : decode cc pc = .ok (.ldc idx, 2)) (hb0 : b = 2) (ha : a = -308) (w : Cond.classLink own idx "[Ljava/lang/Object;" ∈ lw_all) : StepOk own cc nL nm pc 2 (.ldc idx, a, b, t) :=
  sh_push (v := .inr (.inr a)) (fun _ _ _ => by simp only [sem1, hb0]; rfl) trivial (fun {G d p l e R s m args below meth c h H locs cells slots Q ls rest} C _ k => by
    have K := C.2.2.2.2.2.1
    obtain ⟨mi, e1, e2⟩ := K.2.2.2.2.2.1
    subst ha
    rw [show cv G (.inr (.inr (-308))) = .ref mi from by show cr G (-308) = _; rw [cr_neg (by decide)]; exact e1] at k
    exact va_ldcM C.1 C.2.1 C.2.2.2.1 (C.2.2.2.2.1 _ w) e2 hd k)
theorem ok_getstatic {idx : Nat} {x : String × String × String × Int × Int} (hd : decode cc pc = .ok (.getstatic idx, 3)) (hx0 : x ∈ gsz) (ha : a = x.2.2.2.2) (hb0 : b = x.2.2.2.1) (hw : wfv (ofK b a)) (w : Cond.fieldLink own idx x.1 x.2.1 x.2.2.1 ∈ lw_all ∨ ∃ host, Cond.fieldLinkNest own idx x.1 x.2.1 x.2.2.1 host ∈ lw_tbl) : StepOk own cc nL nm pc 3 (.getstatic idx, a, b, t) :=
  sh_push (v := ofK b a) (fun _ _ _ => rfl) hw (fun {G d p l e R s m args below meth c h H locs cells slots Q ls rest} C S k => by
    have K := C.2.2.2.2.2.1
    obtain ⟨cf1, kf, fi, f, a9, cell, c1, c2, c3, c4, c5, c6, c7, c8⟩ := S.2.2.2.2.2 x hx0
    rw [← ha, ← hb0] at c7
    rcases w with w | ⟨host, w⟩
    · exact W.gets C.1 C.2.1 C.2.2.2.1 (C.2.2.2.2.1 _ w) c1 c2 c3 c4 c5 (fun e => by rw [e] at c6; cases c6) c7 (g := F0 m pc ls rest) rfl hd k
    · exact va_WgetsN C.1 C.2.1 C.2.2.2.1 (va_Nw.use rfl (K.2.1 _ w rfl)) c1 c2 c3 c4 c5 (fun e => by rw [e] at c6; cases c6) c7 (g := F0 m pc ls rest) rfl hd k)
end CST
