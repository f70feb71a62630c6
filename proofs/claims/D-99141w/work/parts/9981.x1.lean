/-! ===== X: facts by row, small methods (printed by gen_9981.py) ===== -/
def XG (T : Int → Int → Int) (h : AH) : Prop := XI h ∧ XB T h ∧ TV T
def zpl5 (nw : Int → Int) (m : Int) : Int := if nw (2 + 2 * m) = -1 then -1 else 5 * nw (3 + 2 * m) + nw (2 + 2 * m)
def zon5 (T : Int → Int → Int) (nw : Int → Int) (p : Int) : Int := zat T nw (p % 5) (p / 5)
def zcn (T : Int → Int → Int) (nw : Int → Int) : Nat → Int → Int
  | 0, _ => 0
  | j + 1, m => (if nw (2 + 2 * m) = -1 ∧ zcw T m = 1 then 1 else 0) + zcn T nw j (m + 1)
/-- the arrays of a state's rows are its own, each once -/
def RP (s : Int) (h : AH) : Prop := (∀ k, 0 ≤ k → k < 40 → s + 5 ≤ ah_m h (s + 4) k ∧ ah_m h (s + 4) k ≤ s + 44) ∧ ∀ j k, 0 ≤ j → j < 40 → 0 ≤ k → k < 40 → j ≠ k → ah_m h (s + 4) j ≠ ah_m h (s + 4) k
/-- a state of X is as a row of M tells -/
def XS (T : Int → Int → Int) (nw : Int → Int) (s : Int) (h : AH) : Prop := isS s ∧ (ah_m h s 0 = nw 0 ∧ ah_m h s 1 = nw 1 ∧ ah_m h s 2 = nw 24 ∧ ah_m h s 7 = zcn T nw (zn T) 0)
  ∧ (∀ m, 0 ≤ m → m < T 1072 4 → ah_m h (s + 1) m = zpl5 nw m) ∧ (∀ p, 0 ≤ p → p < 25 → ah_m h (s + 2) p = zon5 T nw p) ∧ (∀ f, 0 ≤ f → f < T 1072 5 → ah_m h (s + 3) f = nw (18 + f))
  ∧ (∀ k i, 0 ≤ k → k < nw 24 → 0 ≤ i → i < 5 → ah_m h (ah_m h (s + 4) k) i = nw (25 + 5 * k + i)) ∧ RP s h
section X1
variable {W : Int → Int → Prop} {d : Nat} {h h' h0 : AH} {Q : QQ} {x y z m k s l w a b c v n p r o i f : Int} {S T T' : Int → Int → Int} {t nw : Int → Int}
set_option maxHeartbeats 4000000
theorem x_0 : ah_m h 1 0 = xb h := rfl
theorem xt_1a (hK : XG T h) : (ah_t h 1).1 = 1 := congrArg Prod.fst (hK.1.1 (1, 1, 0) (by decide))
theorem xt_10a (hK : XG T h) : (ah_t h 10).1 = -2 := congrArg Prod.fst (hK.1.1 (10, -2, 1600) (by decide))
theorem xt_10b (hK : XG T h) : (ah_t h 10).2 = 1600 := congrArg Prod.snd (hK.1.1 (10, -2, 1600) (by decide))
theorem xt_11a (hK : XG T h) : (ah_t h 11).1 = 4 := congrArg Prod.fst (hK.1.1 (11, 4, 0) (by decide))
theorem xt_12a (hK : XG T h) : (ah_t h 12).1 = 5 := congrArg Prod.fst (hK.1.1 (12, 5, 0) (by decide))
theorem xt_13a (hK : XG T h) : (ah_t h 13).1 = 6 := congrArg Prod.fst (hK.1.1 (13, 6, 0) (by decide))
theorem xt_14a (hK : XG T h) : (ah_t h 14).1 = -4 := congrArg Prod.fst (hK.1.1 (14, -4, 11) (by decide))
theorem xt_14b (hK : XG T h) : (ah_t h 14).2 = 11 := congrArg Prod.snd (hK.1.1 (14, -4, 11) (by decide))
theorem xt_15a (hK : XG T h) : (ah_t h 15).1 = 6 := congrArg Prod.fst (hK.1.1 (15, 6, 0) (by decide))
theorem xt_16a (hK : XG T h) : (ah_t h 16).1 = -4 := congrArg Prod.fst (hK.1.1 (16, -4, 11) (by decide))
theorem xt_16b (hK : XG T h) : (ah_t h 16).2 = 11 := congrArg Prod.snd (hK.1.1 (16, -4, 11) (by decide))
theorem xt_17a (hK : XG T h) : (ah_t h 17).1 = -1 := congrArg Prod.fst (hK.1.1 (17, -1, 6) (by decide))
theorem xt_17b (hK : XG T h) : (ah_t h 17).2 = 6 := congrArg Prod.snd (hK.1.1 (17, -1, 6) (by decide))
theorem xt_18a (hK : XG T h) : (ah_t h 18).1 = -11 := congrArg Prod.fst (hK.1.1 (18, -11, 5) (by decide))
theorem xt_18b (hK : XG T h) : (ah_t h 18).2 = 5 := congrArg Prod.snd (hK.1.1 (18, -11, 5) (by decide))
theorem xt_115a (hK : XG T h) : (ah_t h 115).1 = -4 := congrArg Prod.fst (hK.1.1 (115, -4, 25) (by decide))
theorem xt_115b (hK : XG T h) : (ah_t h 115).2 = 25 := congrArg Prod.snd (hK.1.1 (115, -4, 25) (by decide))
theorem xt_116a (hK : XG T h) : (ah_t h 116).1 = -1 := congrArg Prod.fst (hK.1.1 (116, -1, 16) (by decide))
theorem xt_116b (hK : XG T h) : (ah_t h 116).2 = 16 := congrArg Prod.snd (hK.1.1 (116, -1, 16) (by decide))
theorem xt_117a (hK : XG T h) : (ah_t h 117).1 = -1 := congrArg Prod.fst (hK.1.1 (117, -1, 16) (by decide))
theorem xt_117b (hK : XG T h) : (ah_t h 117).2 = 16 := congrArg Prod.snd (hK.1.1 (117, -1, 16) (by decide))
theorem xt_118a (hK : XG T h) : (ah_t h 118).1 = -1 := congrArg Prod.fst (hK.1.1 (118, -1, 8) (by decide))
theorem xt_118b (hK : XG T h) : (ah_t h 118).2 = 8 := congrArg Prod.snd (hK.1.1 (118, -1, 8) (by decide))
theorem xt_119a (hK : XG T h) : (ah_t h 119).1 = -12 := congrArg Prod.fst (hK.1.1 (119, -12, 20) (by decide))
theorem xt_119b (hK : XG T h) : (ah_t h 119).2 = 20 := congrArg Prod.snd (hK.1.1 (119, -12, 20) (by decide))
theorem xt_1035a (hK : XG T h) : (ah_t h 1035).1 = -2 := congrArg Prod.fst (hK.1.1 (1035, -2, 32) (by decide))
theorem xt_1035b (hK : XG T h) : (ah_t h 1035).2 = 32 := congrArg Prod.snd (hK.1.1 (1035, -2, 32) (by decide))
theorem xf_1_1 (hK : XG T h) : ah_m h 1 1 = 10 := hK.1.2.1 (1, 1, 10) (by decide)
theorem xf_1_5 (hK : XG T h) : ah_m h 1 5 = 11 := hK.1.2.1 (1, 5, 11) (by decide)
theorem xf_1_6 (hK : XG T h) : ah_m h 1 6 = 13 := hK.1.2.1 (1, 6, 13) (by decide)
theorem xf_1_7 (hK : XG T h) : ah_m h 1 7 = 15 := hK.1.2.1 (1, 7, 15) (by decide)
theorem xf_1_8 (hK : XG T h) : ah_m h 1 8 = 17 := hK.1.2.1 (1, 8, 17) (by decide)
theorem xf_1_9 (hK : XG T h) : ah_m h 1 9 = 18 := hK.1.2.1 (1, 9, 18) (by decide)
theorem xf_1_10 (hK : XG T h) : ah_m h 1 10 = 19 := hK.1.2.1 (1, 10, 19) (by decide)
theorem xf_1_11 (hK : XG T h) : ah_m h 1 11 = 22 := hK.1.2.1 (1, 11, 22) (by decide)
theorem xf_1_12 (hK : XG T h) : ah_m h 1 12 = 25 := hK.1.2.1 (1, 12, 25) (by decide)
theorem xf_1_13 (hK : XG T h) : ah_m h 1 13 = 70 := hK.1.2.1 (1, 13, 70) (by decide)
theorem xf_1_14 (hK : XG T h) : ah_m h 1 14 = 115 := hK.1.2.1 (1, 14, 115) (by decide)
theorem xf_1_15 (hK : XG T h) : ah_m h 1 15 = 116 := hK.1.2.1 (1, 15, 116) (by decide)
theorem xf_1_16 (hK : XG T h) : ah_m h 1 16 = 117 := hK.1.2.1 (1, 16, 117) (by decide)
theorem xf_1_18 (hK : XG T h) : ah_m h 1 18 = 118 := hK.1.2.1 (1, 18, 118) (by decide)
theorem xf_1_19 (hK : XG T h) : ah_m h 1 19 = 119 := hK.1.2.1 (1, 19, 119) (by decide)
theorem xf_1_23 (hK : XG T h) : ah_m h 1 23 = 1035 := hK.1.2.1 (1, 23, 1035) (by decide)
theorem xf_11_0 (hK : XG T h) : ah_m h 11 0 = 12 := hK.1.2.1 (11, 0, 12) (by decide)
theorem xf_11_7 (hK : XG T h) : ah_m h 11 7 = 1 := hK.1.2.1 (11, 7, 1) (by decide)
theorem xf_13_0 (hK : XG T h) : ah_m h 13 0 = 14 := hK.1.2.1 (13, 0, 14) (by decide)
theorem xf_15_0 (hK : XG T h) : ah_m h 15 0 = 16 := hK.1.2.1 (15, 0, 16) (by decide)
theorem xf_18_0 (hK : XG T h) : ah_m h 18 0 = 1020 := hK.1.2.1 (18, 0, 1020) (by decide)
theorem xf_18_1 (hK : XG T h) : ah_m h 18 1 = 1023 := hK.1.2.1 (18, 1, 1023) (by decide)
theorem xf_18_2 (hK : XG T h) : ah_m h 18 2 = 1026 := hK.1.2.1 (18, 2, 1026) (by decide)
theorem xf_18_3 (hK : XG T h) : ah_m h 18 3 = 1029 := hK.1.2.1 (18, 3, 1029) (by decide)
theorem xf_18_4 (hK : XG T h) : ah_m h 18 4 = 1032 := hK.1.2.1 (18, 4, 1032) (by decide)
theorem xb_t (hK : XG T h) : (ah_t h (xb h)).1 = 2 := congrArg Prod.fst hK.2.1.1.2
theorem xb_1 (hK : XG T h) : ah_m h (xb h) 1 = T 1074 4 := hK.2.1.2.1.1
theorem xb_2 (hK : XG T h) : ah_m h (xb h) 2 = T 1074 5 := hK.2.1.2.1.2.1
theorem xb_3 (hK : XG T h) : ah_m h (xb h) 3 = T 1079 2 := hK.2.1.2.1.2.2.1
theorem xb_4 (hK : XG T h) : ah_m h (xb h) 4 = T 1079 3 := hK.2.1.2.1.2.2.2
theorem x_lk : ah_m h (xb h) 5 = xlk h := rfl
theorem xlk_a (hK : XG T h) : (ah_t h (xlk h)).1 = -1 := congrArg Prod.fst hK.2.1.2.2.1.2.1
theorem xlk_b (hK : XG T h) : (ah_t h (xlk h)).2 = 2 := congrArg Prod.snd hK.2.1.2.2.1.2.1
theorem xlk_0 (hK : XG T h) : ah_m h (xlk h) 0 = T 1074 6 := hK.2.1.2.2.1.2.2.1
theorem xlk_1 (hK : XG T h) : ah_m h (xlk h) 1 = T 1074 7 := hK.2.1.2.2.1.2.2.2
theorem xl_6 (hK : XG T h) : XL h (ah_m h (xb h) 6) (T 1072 3) 12 := hK.2.1.2.2.2.1.1
theorem xl_7 (hK : XG T h) : XL h (ah_m h (xb h) 7) (T 1072 4) 13 := hK.2.1.2.2.2.1.2.1
theorem xl_8 (hK : XG T h) : XL h (ah_m h (xb h) 8) (T 1072 5) 14 := hK.2.1.2.2.2.1.2.2
theorem xl_6t (hK : XG T h) : (ah_t h (ah_m h (xb h) 6)).1 = 3 := congrArg Prod.fst (xl_6 hK).1.2.1
theorem xl_7t (hK : XG T h) : (ah_t h (ah_m h (xb h) 7)).1 = 3 := congrArg Prod.fst (xl_7 hK).1.2.1
theorem xl_8t (hK : XG T h) : (ah_t h (ah_m h (xb h) 8)).1 = 3 := congrArg Prod.fst (xl_8 hK).1.2.1
theorem ma_t (hK : XG T h) (h0 : 0 ≤ m) (h1 : m < T 1072 4) : (ah_t h (xma h m)).1 = 13 := congrArg Prod.fst ((xl_7 hK).2.2 m h0 h1).2
theorem ma_1 (hK : XG T h) (h0 : 0 ≤ m) (h1 : m < T 1072 4) : ah_m h (xma h m) 1 = T 1076 (16 + 2 * m) := (hK.2.1.2.2.2.2.2.1 m h0 h1).1
theorem ma_2 (hK : XG T h) (h0 : 0 ≤ m) (h1 : m < T 1072 4) : ah_m h (xma h m) 2 = zs T m := (hK.2.1.2.2.2.2.2.1 m h0 h1).2
theorem fi_t (hK : XG T h) (h0 : 0 ≤ f) (h1 : f < T 1072 5) : (ah_t h (xfi h f)).1 = 14 := congrArg Prod.fst ((xl_8 hK).2.2 f h0 h1).2
theorem fi_1 (hK : XG T h) (h0 : 0 ≤ f) (h1 : f < T 1072 5) : ah_m h (xfi h f) 1 = T 1078 (18 + 3 * f) := (hK.2.1.2.2.2.2.2.2 f h0 h1).1
theorem fi_2 (hK : XG T h) (h0 : 0 ≤ f) (h1 : f < T 1072 5) : ah_m h (xfi h f) 2 = T 1078 (19 + 3 * f) := (hK.2.1.2.2.2.2.2.2 f h0 h1).2
theorem ki_t (hK : XG T h) (h0 : 0 ≤ k) (h1 : k < T 1072 3) : (ah_t h (xki h k)).1 = 12 := congrArg Prod.fst ((xl_6 hK).2.2 k h0 h1).2
theorem ki_1 (hK : XG T h) (h0 : 0 ≤ k) (h1 : k < T 1072 3) : ah_m h (xki h k) 1 = T 1075 (20 + 4 * k) := (hK.2.1.2.2.2.2.1 k h0 h1).1
theorem ki_2 (hK : XG T h) (h0 : 0 ≤ k) (h1 : k < T 1072 3) : ah_m h (xki h k) 2 = T 1075 (21 + 4 * k) := (hK.2.1.2.2.2.2.1 k h0 h1).2.1
theorem ki_3 (hK : XG T h) (h0 : 0 ≤ k) (h1 : k < T 1072 3) : ah_m h (xki h k) 3 = T 1075 (22 + 4 * k) := (hK.2.1.2.2.2.2.1 k h0 h1).2.2.1
theorem ki_4 (hK : XG T h) (h0 : 0 ≤ k) (h1 : k < T 1072 3) : ah_m h (xki h k) 4 = T 1075 (23 + 4 * k) := (hK.2.1.2.2.2.2.1 k h0 h1).2.2.2
theorem km_b (hK : XG T h) (h0 : 0 ≤ m) (h1 : m < T 1072 4) : 0 ≤ T 1076 (16 + 2 * m) ∧ T 1076 (16 + 2 * m) < T 1072 3 := ⟨(hK.2.2.2.2.2.2.2.1 m h0 (by have := hK.2.2.2.1; omega)).1.1, hK.2.2.2.2.2.2.2.2.2.2.2.2.2.2 m h0 h1⟩
/-- the kind of a man -/
def xkm (T : Int → Int → Int) (h : AH) (m : Int) : Int := xki h (T 1076 (16 + 2 * m))
theorem km_t (hK : XG T h) (h0 : 0 ≤ m) (h1 : m < T 1072 4) : (ah_t h (xkm T h m)).1 = 12 := ki_t hK (km_b hK h0 h1).1 (km_b hK h0 h1).2
theorem km_1 (hK : XG T h) (h0 : 0 ≤ m) (h1 : m < T 1072 4) : ah_m h (xkm T h m) 1 = T 1075 (20 + 4 * T 1076 (16 + 2 * m)) := ki_1 hK (km_b hK h0 h1).1 (km_b hK h0 h1).2
theorem km_2 (hK : XG T h) (h0 : 0 ≤ m) (h1 : m < T 1072 4) : ah_m h (xkm T h m) 2 = T 1075 (21 + 4 * T 1076 (16 + 2 * m)) := ki_2 hK (km_b hK h0 h1).1 (km_b hK h0 h1).2
theorem km_3 (hK : XG T h) (h0 : 0 ≤ m) (h1 : m < T 1072 4) : ah_m h (xkm T h m) 3 = zwo T m := ki_3 hK (km_b hK h0 h1).1 (km_b hK h0 h1).2
theorem km_4 (hK : XG T h) (h0 : 0 ≤ m) (h1 : m < T 1072 4) : ah_m h (xkm T h m) 4 = zcw T m := ki_4 hK (km_b hK h0 h1).1 (km_b hK h0 h1).2
theorem s_t (hK : XG T h) (hS : XS T nw s h) : (ah_t h s).1 = 8 := congrArg Prod.fst (hK.1.2.2.1 s hS.1).1.1
theorem s_0 (hS : XS T nw s h) : ah_m h s 0 = nw 0 := hS.2.1.1
theorem s_1 (hS : XS T nw s h) : ah_m h s 1 = nw 1 := hS.2.1.2.1
theorem s_2 (hS : XS T nw s h) : ah_m h s 2 = nw 24 := hS.2.1.2.2.1
theorem s_7 (hS : XS T nw s h) : ah_m h s 7 = zcn T nw (zn T) 0 := hS.2.1.2.2.2
theorem s_3 (hK : XG T h) (hS : XS T nw s h) : ah_m h s 3 = s + 1 := (hK.1.2.2.1 s hS.1).2.1
theorem s_4 (hK : XG T h) (hS : XS T nw s h) : ah_m h s 4 = s + 2 := (hK.1.2.2.1 s hS.1).2.2.1
theorem s_5 (hK : XG T h) (hS : XS T nw s h) : ah_m h s 5 = s + 3 := (hK.1.2.2.1 s hS.1).2.2.2.1
theorem s_6 (hK : XG T h) (hS : XS T nw s h) : ah_m h s 6 = s + 4 := (hK.1.2.2.1 s hS.1).2.2.2.2.1
theorem s_11 (hK : XG T h) (hS : XS T nw s h) : ah_m h s 11 = 1 := (hK.1.2.2.1 s hS.1).2.2.2.2.2
theorem s_3a (hK : XG T h) (hS : XS T nw s h) : (ah_t h (s + 1)).1 = -1 := congrArg Prod.fst (hK.1.2.2.1 s hS.1).1.2.1
theorem s_3b (hK : XG T h) (hS : XS T nw s h) : (ah_t h (s + 1)).2 = 8 := congrArg Prod.snd (hK.1.2.2.1 s hS.1).1.2.1
theorem s_4a (hK : XG T h) (hS : XS T nw s h) : (ah_t h (s + 2)).1 = -1 := congrArg Prod.fst (hK.1.2.2.1 s hS.1).1.2.2.1
theorem s_4b (hK : XG T h) (hS : XS T nw s h) : (ah_t h (s + 2)).2 = 25 := congrArg Prod.snd (hK.1.2.2.1 s hS.1).1.2.2.1
theorem s_5a (hK : XG T h) (hS : XS T nw s h) : (ah_t h (s + 3)).1 = -1 := congrArg Prod.fst (hK.1.2.2.1 s hS.1).1.2.2.2.1
theorem s_5b (hK : XG T h) (hS : XS T nw s h) : (ah_t h (s + 3)).2 = 6 := congrArg Prod.snd (hK.1.2.2.1 s hS.1).1.2.2.2.1
theorem s_6a (hK : XG T h) (hS : XS T nw s h) : (ah_t h (s + 4)).1 = -13 := congrArg Prod.fst (hK.1.2.2.1 s hS.1).1.2.2.2.2.1
theorem s_6b (hK : XG T h) (hS : XS T nw s h) : (ah_t h (s + 4)).2 = 40 := congrArg Prod.snd (hK.1.2.2.1 s hS.1).1.2.2.2.2.1
theorem sp (hS : XS T nw s h) (h0 : 0 ≤ m) (h1 : m < T 1072 4) : ah_m h (s + 1) m = zpl5 nw m := hS.2.2.1 m h0 h1
theorem so (hS : XS T nw s h) (h0 : 0 ≤ p) (h1 : p < 25) : ah_m h (s + 2) p = zon5 T nw p := hS.2.2.2.1 p h0 h1
theorem sb (hS : XS T nw s h) (h0 : 0 ≤ f) (h1 : f < T 1072 5) : ah_m h (s + 3) f = nw (18 + f) := hS.2.2.2.2.1 f h0 h1
theorem vv_t (hK : XG T h) (hV : isV v) : (ah_t h v).1 = 7 := congrArg Prod.fst (hK.1.2.2.2 v hV).1.1
theorem vv_0 (hK : XG T h) (hV : isV v) : ah_m h v 0 = v + 1 := (hK.1.2.2.2 v hV).2.1
theorem vv_1 (hK : XG T h) (hV : isV v) : ah_m h v 1 = v + 2 := (hK.1.2.2.2 v hV).2.2
theorem vv_0a (hK : XG T h) (hV : isV v) : (ah_t h (v + 1)).1 = -1 := congrArg Prod.fst (hK.1.2.2.2 v hV).1.2.1
theorem vv_0b (hK : XG T h) (hV : isV v) : (ah_t h (v + 1)).2 = 200 := congrArg Prod.snd (hK.1.2.2.2 v hV).1.2.1
theorem vv_1a (hK : XG T h) (hV : isV v) : (ah_t h (v + 2)).1 = -1 := congrArg Prod.fst (hK.1.2.2.2 v hV).1.2.2
theorem vv_1b (hK : XG T h) (hV : isV v) : (ah_t h (v + 2)).2 = 200 := congrArg Prod.snd (hK.1.2.2.2 v hV).1.2.2
theorem XG_off (hK : XG T h) (hO : Off W h h') (hW : ∀ r i, W r i → ¬ fix r i ∧ ¬ BRr r ∧ ¬ (r = 1 ∧ i = 0)) : XG T h' :=
  ⟨XI_off hK.1 hO (fun r i w => (hW r i w).1), (XB_off hK.2.1 hO (fun r i w => (hW r i w).2)).1, hK.2.2⟩
theorem XS_off (hS : XS T nw s h) (hn : nw 24 ≤ 40) (hO : Off W h h') (hW : ∀ r i, W r i → ¬ (s ≤ r ∧ r ≤ s + 44)) : XS T nw s h' := by
  have hm : ∀ r i, s ≤ r → r ≤ s + 44 → ah_m h' r i = ah_m h r i := fun r i a b => hO.2 r i (fun w => hW r i w ⟨a, b⟩)
  obtain ⟨a1, a2, a3, a4, a5, a6, a7⟩ := hS
  refine ⟨a1, ?_, fun m p q => ?_, fun m p q => ?_, fun m p q => ?_, fun k i p q u v => ?_, fun k p q => ?_, fun j k p q u v ne => ?_⟩
  · rw [hm _ _ (by omega) (by omega), hm _ _ (by omega) (by omega), hm _ _ (by omega) (by omega), hm _ _ (by omega) (by omega)]; exact a2
  · rw [hm _ _ (by omega) (by omega)]; exact a3 m p q
  · rw [hm _ _ (by omega) (by omega)]; exact a4 m p q
  · rw [hm _ _ (by omega) (by omega)]; exact a5 m p q
  · have := a7.1 k p (by omega)
    rw [hm (s + 4) k (by omega) (by omega), hm _ _ (by omega) (by omega)]; exact a6 k i p q u v
  · rw [hm (s + 4) k (by omega) (by omega)]; exact a7.1 k p q
  · rw [hm (s + 4) k (by omega) (by omega), hm (s + 4) j (by omega) (by omega)]; exact a7.2 j k p q u v ne
/-! static ones -/
theorem c_17 : wpC (d + 1) 17 [.inl x, .inl y] h Q ↔ Q (.inl (some (.inl (if x < y then y else x)))) h := by
  apply CT_iff; apply CT_of; rw [wpC_B]; refine ⟨⟨Nat.zero_lt_succ _, Nat.le_of_ble_eq_true rfl⟩, ?_⟩; simp only [lent]
  by_cases g : x < y
  · simp (disch := omega) only [q_17_0, b_17_0, q_17_9, b_17_9, q_17_10, b_17_10, ↓w_iload_n_0, ↓w_iload_n_1, ↓w_nop, ↓w_goto, ↓w_if_icmp_lt, ↓w_ireturn0, stw_0, stw_i, stw_l, stw_r, ofK0, ofK1, ofK2, lst1, lst2, lkill, kont_none, kont_some, Int.reduceToNat, List.length_cons, List.length_nil, Nat.reduceAdd, Nat.reduceLeDiff, Nat.zero_le, true_and, and_true, if_true, if_false, ne_eq, Int.reduceEq, Int.reduceNeg, not_false_eq_true, not_true_eq_false, ↓reduceIte, Int.reduceLT, Int.reduceLE, and_self, or_true, true_or, or_false, false_or, false_and, and_false, ah_t_w, ah_m_w, ah_n_w, lst1_0, List.tail_cons, w32_i, zbd, lst2_0, g]
  · simp (disch := omega) only [q_17_0, b_17_0, q_17_9, b_17_9, q_17_10, b_17_10, ↓w_iload_n_0, ↓w_iload_n_1, ↓w_nop, ↓w_goto, ↓w_if_icmp_lt, ↓w_ireturn0, stw_0, stw_i, stw_l, stw_r, ofK0, ofK1, ofK2, lst1, lst2, lkill, kont_none, kont_some, Int.reduceToNat, List.length_cons, List.length_nil, Nat.reduceAdd, Nat.reduceLeDiff, Nat.zero_le, true_and, and_true, if_true, if_false, ne_eq, Int.reduceEq, Int.reduceNeg, not_false_eq_true, not_true_eq_false, ↓reduceIte, Int.reduceLT, Int.reduceLE, and_self, or_true, true_or, or_false, false_or, false_and, and_false, ah_t_w, ah_m_w, ah_n_w, lst1_0, List.tail_cons, w32_i, zbd, lst2_0, g]
theorem c_18 : wpC (d + 1) 18 [.inl x, .inl y] h Q ↔ Q (.inl (some (.inl (if y < x then y else x)))) h := by
  apply CT_iff; apply CT_of; rw [wpC_B]; refine ⟨⟨Nat.zero_lt_succ _, Nat.le_of_ble_eq_true rfl⟩, ?_⟩; simp only [lent]
  by_cases g : y < x
  · simp (disch := omega) only [q_18_0, b_18_0, q_18_9, b_18_9, q_18_10, b_18_10, ↓w_iload_n_0, ↓w_iload_n_1, ↓w_nop, ↓w_goto, ↓w_if_icmp_gt, ↓w_ireturn0, stw_0, stw_i, stw_l, stw_r, ofK0, ofK1, ofK2, lst1, lst2, lkill, kont_none, kont_some, Int.reduceToNat, List.length_cons, List.length_nil, Nat.reduceAdd, Nat.reduceLeDiff, Nat.zero_le, true_and, and_true, if_true, if_false, ne_eq, Int.reduceEq, Int.reduceNeg, not_false_eq_true, not_true_eq_false, ↓reduceIte, Int.reduceLT, Int.reduceLE, and_self, or_true, true_or, or_false, false_or, false_and, and_false, ah_t_w, ah_m_w, ah_n_w, lst1_0, List.tail_cons, w32_i, zbd, lst2_0, g]
  · simp (disch := omega) only [q_18_0, b_18_0, q_18_9, b_18_9, q_18_10, b_18_10, ↓w_iload_n_0, ↓w_iload_n_1, ↓w_nop, ↓w_goto, ↓w_if_icmp_gt, ↓w_ireturn0, stw_0, stw_i, stw_l, stw_r, ofK0, ofK1, ofK2, lst1, lst2, lkill, kont_none, kont_some, Int.reduceToNat, List.length_cons, List.length_nil, Nat.reduceAdd, Nat.reduceLeDiff, Nat.zero_le, true_and, and_true, if_true, if_false, ne_eq, Int.reduceEq, Int.reduceNeg, not_false_eq_true, not_true_eq_false, ↓reduceIte, Int.reduceLT, Int.reduceLE, and_self, or_true, true_or, or_false, false_or, false_and, and_false, ah_t_w, ah_m_w, ah_n_w, lst1_0, List.tail_cons, w32_i, zbd, lst2_0, g]
theorem c_19 (h1 : -2147483648 < x) (h2 : x < 2147483648) : wpC (d + 1) 19 [.inl x] h Q ↔ Q (.inl (some (.inl (zabs x)))) h := by
  apply CT_iff; apply CT_of; rw [wpC_B]; refine ⟨⟨Nat.zero_lt_succ _, Nat.le_of_ble_eq_true rfl⟩, ?_⟩; simp only [lent]
  unfold zabs
  by_cases g : x < 0
  · simp (disch := omega) only [q_19_0, b_19_0, q_19_9, b_19_9, q_19_10, b_19_10, ↓w_iload_n_0, ↓w_ineg, ↓w_nop, ↓w_goto, ↓w_ifCond_ge, ↓w_ireturn0, stw_0, stw_i, stw_l, stw_r, ofK0, ofK1, ofK2, lst1, lst2, lkill, kont_none, kont_some, Int.reduceToNat, List.length_cons, List.length_nil, Nat.reduceAdd, Nat.reduceLeDiff, Nat.zero_le, true_and, and_true, if_true, if_false, ne_eq, Int.reduceEq, Int.reduceNeg, not_false_eq_true, not_true_eq_false, ↓reduceIte, Int.reduceLT, Int.reduceLE, and_self, or_true, true_or, or_false, false_or, false_and, and_false, ah_t_w, ah_m_w, ah_n_w, lst1_0, List.tail_cons, w32_i, zbd, lst2_0, g]
  · simp (disch := omega) only [q_19_0, b_19_0, q_19_9, b_19_9, q_19_10, b_19_10, ↓w_iload_n_0, ↓w_ineg, ↓w_nop, ↓w_goto, ↓w_ifCond_ge, ↓w_ireturn0, stw_0, stw_i, stw_l, stw_r, ofK0, ofK1, ofK2, lst1, lst2, lkill, kont_none, kont_some, Int.reduceToNat, List.length_cons, List.length_nil, Nat.reduceAdd, Nat.reduceLeDiff, Nat.zero_le, true_and, and_true, if_true, if_false, ne_eq, Int.reduceEq, Int.reduceNeg, not_false_eq_true, not_true_eq_false, ↓reduceIte, Int.reduceLT, Int.reduceLE, and_self, or_true, true_or, or_false, false_or, false_and, and_false, ah_t_w, ah_m_w, ah_n_w, lst1_0, List.tail_cons, w32_i, zbd, lst2_0, g]
theorem c_92 : wpC (d + 1) 92 [.inl x, .inl y, .inl z] h Q ↔ Q (.inl (some (.inl (if y ≤ x ∧ x ≤ z then 1 else 0)))) h := by
  apply CT_iff; apply CT_of; rw [wpC_B]; refine ⟨⟨Nat.zero_lt_succ _, Nat.le_of_ble_eq_true rfl⟩, ?_⟩; simp only [lent]
  by_cases g : x < y
  · simp (disch := omega) only [q_92_0, b_92_0, q_92_14, b_92_14, q_92_15, b_92_15, ↓w_iconst, ↓w_iload_n_0, ↓w_iload_n_1, ↓w_iload_n_2, ↓w_nop, ↓w_goto, ↓w_if_icmp_lt, ↓w_if_icmp_gt, ↓w_ireturn1, stw_0, stw_i, stw_l, stw_r, ofK0, ofK1, ofK2, lst1, lst2, lkill, kont_none, kont_some, Int.reduceToNat, List.length_cons, List.length_nil, Nat.reduceAdd, Nat.reduceLeDiff, Nat.zero_le, true_and, and_true, if_true, if_false, ne_eq, Int.reduceEq, Int.reduceNeg, not_false_eq_true, not_true_eq_false, ↓reduceIte, Int.reduceLT, Int.reduceLE, and_self, or_true, true_or, or_false, false_or, false_and, and_false, ah_t_w, ah_m_w, ah_n_w, lst1_0, List.tail_cons, w32_i, zbd, lst2_0, g, show ¬ (y ≤ x ∧ x ≤ z) by omega]
  · by_cases g2 : z < x
    · simp (disch := omega) only [q_92_0, b_92_0, q_92_14, b_92_14, q_92_15, b_92_15, ↓w_iconst, ↓w_iload_n_0, ↓w_iload_n_1, ↓w_iload_n_2, ↓w_nop, ↓w_goto, ↓w_if_icmp_lt, ↓w_if_icmp_gt, ↓w_ireturn1, stw_0, stw_i, stw_l, stw_r, ofK0, ofK1, ofK2, lst1, lst2, lkill, kont_none, kont_some, Int.reduceToNat, List.length_cons, List.length_nil, Nat.reduceAdd, Nat.reduceLeDiff, Nat.zero_le, true_and, and_true, if_true, if_false, ne_eq, Int.reduceEq, Int.reduceNeg, not_false_eq_true, not_true_eq_false, ↓reduceIte, Int.reduceLT, Int.reduceLE, and_self, or_true, true_or, or_false, false_or, false_and, and_false, ah_t_w, ah_m_w, ah_n_w, lst1_0, List.tail_cons, w32_i, zbd, lst2_0, g, g2, show ¬ (y ≤ x ∧ x ≤ z) by omega]
    · simp (disch := omega) only [q_92_0, b_92_0, q_92_14, b_92_14, q_92_15, b_92_15, ↓w_iconst, ↓w_iload_n_0, ↓w_iload_n_1, ↓w_iload_n_2, ↓w_nop, ↓w_goto, ↓w_if_icmp_lt, ↓w_if_icmp_gt, ↓w_ireturn1, stw_0, stw_i, stw_l, stw_r, ofK0, ofK1, ofK2, lst1, lst2, lkill, kont_none, kont_some, Int.reduceToNat, List.length_cons, List.length_nil, Nat.reduceAdd, Nat.reduceLeDiff, Nat.zero_le, true_and, and_true, if_true, if_false, ne_eq, Int.reduceEq, Int.reduceNeg, not_false_eq_true, not_true_eq_false, ↓reduceIte, Int.reduceLT, Int.reduceLE, and_self, or_true, true_or, or_false, false_or, false_and, and_false, ah_t_w, ah_m_w, ah_n_w, lst1_0, List.tail_cons, w32_i, zbd, lst2_0, g, g2, show (y ≤ x ∧ x ≤ z) by omega]
/-! small ones -/
theorem c_81 (hK : XG T h) : wpC (d + 2) 81 [.inr (.inr 1)] h Q ↔ Q (.inl (some (.inl (T 1072 4)))) h := by
  apply CT_iff; apply CT_of; rw [wpC_B]; refine ⟨⟨Nat.zero_lt_succ _, Nat.le_of_ble_eq_true rfl⟩, ?_⟩; simp only [lent]
  simp (disch := omega) only [q_81_0, b_81_0, ↓w_aload_n_0, ↓w_getfield, ↓w_ireturn0, ↓w_invokeinterface_0, stw_0, stw_i, stw_l, stw_r, ofK0, ofK1, ofK2, lst1, lst2, lkill, kont_none, kont_some, Int.reduceToNat, List.length_cons, List.length_nil, Nat.reduceAdd, Nat.reduceLeDiff, Nat.zero_le, true_and, and_true, if_true, if_false, ne_eq, Int.reduceEq, Int.reduceNeg, not_false_eq_true, not_true_eq_false, ↓reduceIte, Int.reduceLT, Int.reduceLE, and_self, or_true, true_or, or_false, false_or, false_and, and_false, ah_t_w, ah_m_w, ah_n_w, lst1_0, List.tail_cons, w32_i, zbd, lst2_0, xt_1a hK, x_0, xb_t hK, xl_7t hK, c_39 (xl_7 hK)]
theorem c_95 (hK : XG T h) : wpC (d + 2) 95 [.inr (.inr 1)] h Q ↔ Q (.inl (some (.inl (T 1072 5)))) h := by
  apply CT_iff; apply CT_of; rw [wpC_B]; refine ⟨⟨Nat.zero_lt_succ _, Nat.le_of_ble_eq_true rfl⟩, ?_⟩; simp only [lent]
  simp (disch := omega) only [q_95_0, b_95_0, ↓w_aload_n_0, ↓w_getfield, ↓w_ireturn0, ↓w_invokeinterface_0, stw_0, stw_i, stw_l, stw_r, ofK0, ofK1, ofK2, lst1, lst2, lkill, kont_none, kont_some, Int.reduceToNat, List.length_cons, List.length_nil, Nat.reduceAdd, Nat.reduceLeDiff, Nat.zero_le, true_and, and_true, if_true, if_false, ne_eq, Int.reduceEq, Int.reduceNeg, not_false_eq_true, not_true_eq_false, ↓reduceIte, Int.reduceLT, Int.reduceLE, and_self, or_true, true_or, or_false, false_or, false_and, and_false, ah_t_w, ah_m_w, ah_n_w, lst1_0, List.tail_cons, w32_i, zbd, lst2_0, xt_1a hK, x_0, xb_t hK, xl_8t hK, c_39 (xl_8 hK)]
theorem c_83 (hK : XG T h) (h0 : 0 ≤ m) (h1 : m < T 1072 4) : wpC (d + 4) 83 [.inr (.inr 1), .inl m] h Q ↔ Q (.inl (some (.inr (.inr (xma h m))))) h := by
  have e : xel h (ah_m h (xb h) 7) m = xma h m := rfl
  apply CT_iff; apply CT_of; rw [wpC_B]; refine ⟨⟨Nat.zero_lt_succ _, Nat.le_of_ble_eq_true rfl⟩, ?_⟩; simp only [lent]
  simp (disch := omega) only [q_83_0, b_83_0, ↓w_aload_n_0, ↓w_iload_n_1, ↓w_getfield, ↓w_checkcast, ↓w_areturn, ↓w_invokeinterface_1, stw_0, stw_i, stw_l, stw_r, ofK0, ofK1, ofK2, lst1, lst2, lkill, kont_none, kont_some, Int.reduceToNat, List.length_cons, List.length_nil, Nat.reduceAdd, Nat.reduceLeDiff, Nat.zero_le, true_and, and_true, if_true, if_false, ne_eq, Int.reduceEq, Int.reduceNeg, not_false_eq_true, not_true_eq_false, ↓reduceIte, Int.reduceLT, Int.reduceLE, and_self, or_true, true_or, or_false, false_or, false_and, and_false, ah_t_w, ah_m_w, ah_n_w, lst1_0, List.tail_cons, w32_i, zbd, lst2_0, xt_1a hK, x_0, xb_t hK, xl_7t hK, c_40 (xl_7 hK) h0 h1, e, ma_t hK h0 h1, asc, Option.isSome_some]
theorem c_82 (hK : XG T h) (h0 : 0 ≤ m) (h1 : m < T 1072 4) : wpC (d + 5) 82 [.inr (.inr 1), .inl m] h Q ↔ Q (.inl (some (.inr (.inr (xkm T h m))))) h := by
  have hb := km_b hK h0 h1
  have e : xel h (ah_m h (xb h) 6) (T 1076 (16 + 2 * m)) = xkm T h m := rfl
  apply CT_iff; apply CT_of; rw [wpC_B]; refine ⟨⟨Nat.zero_lt_succ _, Nat.le_of_ble_eq_true rfl⟩, ?_⟩; simp only [lent]
  simp (disch := omega) only [q_82_0, b_82_0, ↓w_aload_n_0, ↓w_iload_n_1, ↓w_getfield, ↓w_checkcast, ↓w_areturn, ↓w_invokevirtual_1, ↓w_invokeinterface_1, stw_0, stw_i, stw_l, stw_r, ofK0, ofK1, ofK2, lst1, lst2, lkill, kont_none, kont_some, Int.reduceToNat, List.length_cons, List.length_nil, Nat.reduceAdd, Nat.reduceLeDiff, Nat.zero_le, true_and, and_true, if_true, if_false, ne_eq, Int.reduceEq, Int.reduceNeg, not_false_eq_true, not_true_eq_false, ↓reduceIte, Int.reduceLT, Int.reduceLE, and_self, or_true, true_or, or_false, false_or, false_and, and_false, ah_t_w, ah_m_w, ah_n_w, lst1_0, List.tail_cons, w32_i, zbd, lst2_0, xt_1a hK, x_0, xb_t hK, xl_6t hK, c_83 hK h0 h1, ma_t hK h0 h1, ma_1 hK h0 h1, c_40 (xl_6 hK) hb.1 hb.2, e, km_t hK h0 h1, asc, Option.isSome_some]
theorem c_98 (hK : XG T h) : wpC (d + 1) 98 [.inr (.inr 1)] h Q ↔ Q (.inl (some (.inl (if 0 < T 1074 4 then 1 else 0)))) h := by
  apply CT_iff; apply CT_of; rw [wpC_B]; refine ⟨⟨Nat.zero_lt_succ _, Nat.le_of_ble_eq_true rfl⟩, ?_⟩; simp only [lent]
  by_cases g : 0 < T 1074 4
  · simp (disch := omega) only [q_98_0, b_98_0, q_98_14, b_98_14, q_98_15, b_98_15, ↓w_iconst, ↓w_aload_n_0, ↓w_getfield, ↓w_nop, ↓w_goto, ↓w_ifCond_le, ↓w_ireturn1, stw_0, stw_i, stw_l, stw_r, ofK0, ofK1, ofK2, lst1, lst2, lkill, kont_none, kont_some, Int.reduceToNat, List.length_cons, List.length_nil, Nat.reduceAdd, Nat.reduceLeDiff, Nat.zero_le, true_and, and_true, if_true, if_false, ne_eq, Int.reduceEq, Int.reduceNeg, not_false_eq_true, not_true_eq_false, ↓reduceIte, Int.reduceLT, Int.reduceLE, and_self, or_true, true_or, or_false, false_or, false_and, and_false, ah_t_w, ah_m_w, ah_n_w, lst1_0, List.tail_cons, w32_i, zbd, lst2_0, xt_1a hK, x_0, xb_t hK, xb_1 hK, g, show ¬ T 1074 4 ≤ 0 by omega]
  · simp (disch := omega) only [q_98_0, b_98_0, q_98_14, b_98_14, q_98_15, b_98_15, ↓w_iconst, ↓w_aload_n_0, ↓w_getfield, ↓w_nop, ↓w_goto, ↓w_ifCond_le, ↓w_ireturn1, stw_0, stw_i, stw_l, stw_r, ofK0, ofK1, ofK2, lst1, lst2, lkill, kont_none, kont_some, Int.reduceToNat, List.length_cons, List.length_nil, Nat.reduceAdd, Nat.reduceLeDiff, Nat.zero_le, true_and, and_true, if_true, if_false, ne_eq, Int.reduceEq, Int.reduceNeg, not_false_eq_true, not_true_eq_false, ↓reduceIte, Int.reduceLT, Int.reduceLE, and_self, or_true, true_or, or_false, false_or, false_and, and_false, ah_t_w, ah_m_w, ah_n_w, lst1_0, List.tail_cons, w32_i, zbd, lst2_0, xt_1a hK, x_0, xb_t hK, xb_1 hK, g, show T 1074 4 ≤ 0 by omega]
theorem c_102 (hK : XG T h) : wpC (d + 3) 102 [.inr (.inr 1), .inl m] h Q ↔ Q (.inl (some (.inl (if 0 ≤ m ∧ m < T 1072 4 then 1 else 0)))) h := by
  apply CT_iff; apply CT_of; rw [wpC_B]; refine ⟨⟨Nat.zero_lt_succ _, Nat.le_of_ble_eq_true rfl⟩, ?_⟩; simp only [lent]
  by_cases g : m < 0
  · simp (disch := omega) only [q_102_0, b_102_0, q_102_16, b_102_16, q_102_17, b_102_17, ↓w_iconst, ↓w_aload_n_0, ↓w_iload_n_1, ↓w_nop, ↓w_goto, ↓w_ifCond_lt, ↓w_if_icmp_ge, ↓w_ireturn1, ↓w_invokevirtual_0, stw_0, stw_i, stw_l, stw_r, ofK0, ofK1, ofK2, lst1, lst2, lkill, kont_none, kont_some, Int.reduceToNat, List.length_cons, List.length_nil, Nat.reduceAdd, Nat.reduceLeDiff, Nat.zero_le, true_and, and_true, if_true, if_false, ne_eq, Int.reduceEq, Int.reduceNeg, not_false_eq_true, not_true_eq_false, ↓reduceIte, Int.reduceLT, Int.reduceLE, and_self, or_true, true_or, or_false, false_or, false_and, and_false, ah_t_w, ah_m_w, ah_n_w, lst1_0, List.tail_cons, w32_i, zbd, lst2_0, xt_1a hK, g, show ¬ (0 ≤ m ∧ m < T 1072 4) by omega]
  · by_cases g2 : m < T 1072 4
    · simp (disch := omega) only [q_102_0, b_102_0, q_102_16, b_102_16, q_102_17, b_102_17, ↓w_iconst, ↓w_aload_n_0, ↓w_iload_n_1, ↓w_nop, ↓w_goto, ↓w_ifCond_lt, ↓w_if_icmp_ge, ↓w_ireturn1, ↓w_invokevirtual_0, stw_0, stw_i, stw_l, stw_r, ofK0, ofK1, ofK2, lst1, lst2, lkill, kont_none, kont_some, Int.reduceToNat, List.length_cons, List.length_nil, Nat.reduceAdd, Nat.reduceLeDiff, Nat.zero_le, true_and, and_true, if_true, if_false, ne_eq, Int.reduceEq, Int.reduceNeg, not_false_eq_true, not_true_eq_false, ↓reduceIte, Int.reduceLT, Int.reduceLE, and_self, or_true, true_or, or_false, false_or, false_and, and_false, ah_t_w, ah_m_w, ah_n_w, lst1_0, List.tail_cons, w32_i, zbd, lst2_0, xt_1a hK, g, g2, show (0 ≤ m) by omega, c_81 hK, show ¬ T 1072 4 ≤ m by omega]
    · simp (disch := omega) only [q_102_0, b_102_0, q_102_16, b_102_16, q_102_17, b_102_17, ↓w_iconst, ↓w_aload_n_0, ↓w_iload_n_1, ↓w_nop, ↓w_goto, ↓w_ifCond_lt, ↓w_if_icmp_ge, ↓w_ireturn1, ↓w_invokevirtual_0, stw_0, stw_i, stw_l, stw_r, ofK0, ofK1, ofK2, lst1, lst2, lkill, kont_none, kont_some, Int.reduceToNat, List.length_cons, List.length_nil, Nat.reduceAdd, Nat.reduceLeDiff, Nat.zero_le, true_and, and_true, if_true, if_false, ne_eq, Int.reduceEq, Int.reduceNeg, not_false_eq_true, not_true_eq_false, ↓reduceIte, Int.reduceLT, Int.reduceLE, and_self, or_true, true_or, or_false, false_or, false_and, and_false, ah_t_w, ah_m_w, ah_n_w, lst1_0, List.tail_cons, w32_i, zbd, lst2_0, xt_1a hK, g, g2, c_81 hK, show T 1072 4 ≤ m by omega]
theorem c_104 (hK : XG T h) : wpC (d + 3) 104 [.inr (.inr 1), .inl m] h Q ↔ Q (.inl (some (.inl (if 0 ≤ m ∧ m < T 1072 5 then 1 else 0)))) h := by
  apply CT_iff; apply CT_of; rw [wpC_B]; refine ⟨⟨Nat.zero_lt_succ _, Nat.le_of_ble_eq_true rfl⟩, ?_⟩; simp only [lent]
  by_cases g : m < 0
  · simp (disch := omega) only [q_104_0, b_104_0, q_104_16, b_104_16, q_104_17, b_104_17, ↓w_iconst, ↓w_aload_n_0, ↓w_iload_n_1, ↓w_nop, ↓w_goto, ↓w_ifCond_lt, ↓w_if_icmp_ge, ↓w_ireturn1, ↓w_invokevirtual_0, stw_0, stw_i, stw_l, stw_r, ofK0, ofK1, ofK2, lst1, lst2, lkill, kont_none, kont_some, Int.reduceToNat, List.length_cons, List.length_nil, Nat.reduceAdd, Nat.reduceLeDiff, Nat.zero_le, true_and, and_true, if_true, if_false, ne_eq, Int.reduceEq, Int.reduceNeg, not_false_eq_true, not_true_eq_false, ↓reduceIte, Int.reduceLT, Int.reduceLE, and_self, or_true, true_or, or_false, false_or, false_and, and_false, ah_t_w, ah_m_w, ah_n_w, lst1_0, List.tail_cons, w32_i, zbd, lst2_0, xt_1a hK, g, show ¬ (0 ≤ m ∧ m < T 1072 5) by omega]
  · by_cases g2 : m < T 1072 5
    · simp (disch := omega) only [q_104_0, b_104_0, q_104_16, b_104_16, q_104_17, b_104_17, ↓w_iconst, ↓w_aload_n_0, ↓w_iload_n_1, ↓w_nop, ↓w_goto, ↓w_ifCond_lt, ↓w_if_icmp_ge, ↓w_ireturn1, ↓w_invokevirtual_0, stw_0, stw_i, stw_l, stw_r, ofK0, ofK1, ofK2, lst1, lst2, lkill, kont_none, kont_some, Int.reduceToNat, List.length_cons, List.length_nil, Nat.reduceAdd, Nat.reduceLeDiff, Nat.zero_le, true_and, and_true, if_true, if_false, ne_eq, Int.reduceEq, Int.reduceNeg, not_false_eq_true, not_true_eq_false, ↓reduceIte, Int.reduceLT, Int.reduceLE, and_self, or_true, true_or, or_false, false_or, false_and, and_false, ah_t_w, ah_m_w, ah_n_w, lst1_0, List.tail_cons, w32_i, zbd, lst2_0, xt_1a hK, g, g2, show (0 ≤ m) by omega, c_95 hK, show ¬ T 1072 5 ≤ m by omega]
    · simp (disch := omega) only [q_104_0, b_104_0, q_104_16, b_104_16, q_104_17, b_104_17, ↓w_iconst, ↓w_aload_n_0, ↓w_iload_n_1, ↓w_nop, ↓w_goto, ↓w_ifCond_lt, ↓w_if_icmp_ge, ↓w_ireturn1, ↓w_invokevirtual_0, stw_0, stw_i, stw_l, stw_r, ofK0, ofK1, ofK2, lst1, lst2, lkill, kont_none, kont_some, Int.reduceToNat, List.length_cons, List.length_nil, Nat.reduceAdd, Nat.reduceLeDiff, Nat.zero_le, true_and, and_true, if_true, if_false, ne_eq, Int.reduceEq, Int.reduceNeg, not_false_eq_true, not_true_eq_false, ↓reduceIte, Int.reduceLT, Int.reduceLE, and_self, or_true, true_or, or_false, false_or, false_and, and_false, ah_t_w, ah_m_w, ah_n_w, lst1_0, List.tail_cons, w32_i, zbd, lst2_0, xt_1a hK, g, g2, c_95 hK, show T 1072 5 ≤ m by omega]
theorem c_106 (hK : XG T h) : wpC (d + 2) 106 [.inr (.inr 1), .inl x, .inl y] h Q ↔ Q (.inl (some (.inl (if (0 ≤ x ∧ x < T 1074 4) ∧ (0 ≤ y ∧ y < T 1074 5) then 1 else 0)))) h := by
  have b4 := hK.2.2.2.2.2.1; have b5 := hK.2.2.2.2.2.2.1
  apply CT_iff; apply CT_of; rw [wpC_B]; refine ⟨⟨Nat.zero_lt_succ _, Nat.le_of_ble_eq_true rfl⟩, ?_⟩; simp only [lent]
  by_cases g : 0 ≤ x ∧ x ≤ T 1074 4 - 1
  · by_cases g2 : 0 ≤ y ∧ y ≤ T 1074 5 - 1
    · rw [if_pos (show ((0 ≤ x ∧ x < T 1074 4) ∧ (0 ≤ y ∧ y < T 1074 5)) by omega)]
      simp (disch := omega) only [q_106_0, b_106_0, q_106_38, b_106_38, q_106_39, b_106_39, ↓w_iconst, ↓w_aload_n_0, ↓w_iload_n_1, ↓w_iload_n_2, ↓w_isub, ↓w_getfield, ↓w_nop, ↓w_goto, ↓w_ifCond_eq, ↓w_ireturn1, ↓w_invokestatic_3, stw_0, stw_i, stw_l, stw_r, ofK0, ofK1, ofK2, lst1, lst2, lkill, kont_none, kont_some, Int.reduceToNat, List.length_cons, List.length_nil, Nat.reduceAdd, Nat.reduceLeDiff, Nat.zero_le, true_and, and_true, if_true, if_false, ne_eq, Int.reduceEq, Int.reduceNeg, not_false_eq_true, not_true_eq_false, ↓reduceIte, Int.reduceLT, Int.reduceLE, and_self, or_true, true_or, or_false, false_or, false_and, and_false, ah_t_w, ah_m_w, ah_n_w, lst1_0, List.tail_cons, w32_i, zbd, lst2_0, xt_1a hK, x_0, xb_t hK, xb_1 hK, xb_2 hK, c_92, g, g2]
    · rw [if_neg (show ¬ ((0 ≤ x ∧ x < T 1074 4) ∧ (0 ≤ y ∧ y < T 1074 5)) by omega)]
      simp (disch := omega) only [q_106_0, b_106_0, q_106_38, b_106_38, q_106_39, b_106_39, ↓w_iconst, ↓w_aload_n_0, ↓w_iload_n_1, ↓w_iload_n_2, ↓w_isub, ↓w_getfield, ↓w_nop, ↓w_goto, ↓w_ifCond_eq, ↓w_ireturn1, ↓w_invokestatic_3, stw_0, stw_i, stw_l, stw_r, ofK0, ofK1, ofK2, lst1, lst2, lkill, kont_none, kont_some, Int.reduceToNat, List.length_cons, List.length_nil, Nat.reduceAdd, Nat.reduceLeDiff, Nat.zero_le, true_and, and_true, if_true, if_false, ne_eq, Int.reduceEq, Int.reduceNeg, not_false_eq_true, not_true_eq_false, ↓reduceIte, Int.reduceLT, Int.reduceLE, and_self, or_true, true_or, or_false, false_or, false_and, and_false, ah_t_w, ah_m_w, ah_n_w, lst1_0, List.tail_cons, w32_i, zbd, lst2_0, xt_1a hK, x_0, xb_t hK, xb_1 hK, xb_2 hK, c_92, g, g2]
  · rw [if_neg (show ¬ ((0 ≤ x ∧ x < T 1074 4) ∧ (0 ≤ y ∧ y < T 1074 5)) by omega)]
    simp (disch := omega) only [q_106_0, b_106_0, q_106_38, b_106_38, q_106_39, b_106_39, ↓w_iconst, ↓w_aload_n_0, ↓w_iload_n_1, ↓w_iload_n_2, ↓w_isub, ↓w_getfield, ↓w_nop, ↓w_goto, ↓w_ifCond_eq, ↓w_ireturn1, ↓w_invokestatic_3, stw_0, stw_i, stw_l, stw_r, ofK0, ofK1, ofK2, lst1, lst2, lkill, kont_none, kont_some, Int.reduceToNat, List.length_cons, List.length_nil, Nat.reduceAdd, Nat.reduceLeDiff, Nat.zero_le, true_and, and_true, if_true, if_false, ne_eq, Int.reduceEq, Int.reduceNeg, not_false_eq_true, not_true_eq_false, ↓reduceIte, Int.reduceLT, Int.reduceLE, and_self, or_true, true_or, or_false, false_or, false_and, and_false, ah_t_w, ah_m_w, ah_n_w, lst1_0, List.tail_cons, w32_i, zbd, lst2_0, xt_1a hK, x_0, xb_t hK, xb_1 hK, xb_2 hK, c_92, g]
end X1
