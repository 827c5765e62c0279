/-! words as numbers; which words are taken -/
def encN (l : List Nat) : Nat := l.foldl (fun a c => 256 * a + c) 0
section PTC
variable {h : HS} {N b : Nat} {l l1 l2 : List Nat}
theorem enc_k8 : ((8 : Int32).toInt64 &&& 63) = (8 : Int64) := by decide
theorem enc_tc {c : Nat} (hc : c < 256) : (nI c).toInt64 = Int64.ofNat c := by
  have : ∀ c : Fin 256, (nI c.val).toInt64 = Int64.ofNat c.val := by decide +kernel
  exact this ⟨c, hc⟩
theorem encs_n {x c : Nat} (hx : x < 2 ^ 48) (hc : c < 256) : encs (Int64.ofNat x) c = Int64.ofNat (256 * x + c) := by
  unfold encs
  rw [enc_k8, enc_tc hc]
  apply Int64.toBitVec_inj.mp
  rw [Int64.toBitVec_or, Int64.toBitVec_shiftLeft]
  simp only [Int64.toBitVec_ofNat']
  apply BitVec.eq_of_toNat_eq
  rw [BitVec.toNat_or]
  have e8 : ((8 : Int64).toBitVec.smod 64) = 8#64 := by decide
  rw [e8]
  show (BitVec.ofNat 64 x <<< (8#64).toNat).toNat ||| _ = _
  rw [BitVec.toNat_shiftLeft, BitVec.toNat_ofNat, BitVec.toNat_ofNat, BitVec.toNat_ofNat]
  rw [show 8 % 2 ^ 64 = 8 from rfl, BitVec.toNat_ofNat, Nat.mod_eq_of_lt (show x < 2 ^ 64 by omega), Nat.mod_eq_of_lt (show c < 2 ^ 64 by omega)]
  rw [Nat.shiftLeft_eq, Nat.mod_eq_of_lt (show x * 2 ^ 8 < 2 ^ 64 by omega), Nat.mod_eq_of_lt (show 256 * x + c < 2 ^ 64 by omega)]
  have := Nat.shiftLeft_add_eq_or_of_lt (a := x) (b := c) (i := 8) (by omega)
  rw [Nat.shiftLeft_eq] at this
  omega
theorem encN_app (l : List Nat) (c : Nat) : encN (l ++ [c]) = 256 * encN l + c := by unfold encN; rw [List.foldl_append]; rfl
theorem enc_app (l : List Nat) (c : Nat) : enc (l ++ [c]) = encs (enc l) c := by unfold enc; rw [List.foldl_append]; rfl
theorem enc_n : ∀ n (l : List Nat), l.length = n → n ≤ 7 → (∀ c, c ∈ l → c < 256) → encN l < 256 ^ n ∧ enc l = Int64.ofNat (encN l) := by
  intro n
  induction n with
  | zero =>
    intro l hl _ _
    rw [List.length_eq_zero_iff.mp hl]
    exact ⟨by decide, rfl⟩
  | succ n ih =>
    intro l hl hn hc
    rcases List.eq_nil_or_concat l with rfl | ⟨L, c, rfl⟩
    · cases hl
    · rw [List.concat_eq_append] at *
      rw [List.length_append] at hl
      have hl : L.length + 1 = n + 1 := hl
      obtain ⟨h1, h2⟩ := ih L (by omega) (by omega) fun x hx => hc x (List.mem_append.mpr (Or.inl hx))
      have h3 := hc c (List.mem_append.mpr (Or.inr (List.mem_singleton.mpr rfl)))
      have h4 : 256 ^ n ≤ 256 ^ 6 := Nat.pow_le_pow_right (by decide) (by omega)
      have h5 : (256 : Nat) ^ 6 = 2 ^ 48 := by decide
      rw [encN_app, enc_app, h2, Nat.pow_succ]
      exact ⟨by omega, encs_n (by omega) h3⟩
theorem encN_inj : ∀ n (l1 l2 : List Nat), l1.length ≤ n → (∀ c, c ∈ l1 → 1 ≤ c ∧ c < 256) → (∀ c, c ∈ l2 → 1 ≤ c ∧ c < 256) → encN l1 = encN l2 → l1 = l2 := by
  intro n
  induction n with
  | zero =>
    intro l1 l2 hl h1 h2 e
    have : l1 = [] := List.length_eq_zero_iff.mp (by omega)
    subst this
    rcases List.eq_nil_or_concat l2 with rfl | ⟨L, c, rfl⟩
    · rfl
    · rw [List.concat_eq_append] at *
      rw [encN_app] at e
      have := (h2 c (List.mem_append.mpr (Or.inr (List.mem_singleton.mpr rfl)))).1
      have e : 0 = 256 * encN L + c := e
      omega
  | succ n ih =>
    intro l1 l2 hl h1 h2 e
    rcases List.eq_nil_or_concat l1 with rfl | ⟨L1, c1, rfl⟩
    · exact ih [] l2 (Nat.zero_le _) h1 h2 e
    · rw [List.concat_eq_append] at *
      have q1 := h1 c1 (List.mem_append.mpr (Or.inr (List.mem_singleton.mpr rfl)))
      rcases List.eq_nil_or_concat l2 with rfl | ⟨L2, c2, rfl⟩
      · rw [encN_app] at e
        have e : 256 * encN L1 + c1 = 0 := e
        omega
      · rw [List.concat_eq_append] at *
        have q2 := h2 c2 (List.mem_append.mpr (Or.inr (List.mem_singleton.mpr rfl)))
        rw [encN_app, encN_app] at e
        have ec : c1 = c2 := by omega
        have eN : encN L1 = encN L2 := by omega
        rw [List.length_append] at hl
        have hl : L1.length + 1 ≤ n + 1 := hl
        rw [ih L1 L2 (by omega) (fun x hx => h1 x (List.mem_append.mpr (Or.inl hx))) (fun x hx => h2 x (List.mem_append.mpr (Or.inl hx))) eN, ec]
theorem enc_inj (h1 : okW l1) (h2 : okW l2) (e : enc l1 = enc l2) : l1 = l2 := by
  obtain ⟨a1, a2, a3⟩ := h1
  obtain ⟨b1, b2, b3⟩ := h2
  obtain ⟨p1, p2⟩ := enc_n _ l1 rfl a2 fun c hc => by have := a3 c hc; omega
  obtain ⟨q1, q2⟩ := enc_n _ l2 rfl b2 fun c hc => by have := b3 c hc; omega
  have r1 : 256 ^ l1.length ≤ 256 ^ 7 := Nat.pow_le_pow_right (by decide) a2
  have r2 : 256 ^ l2.length ≤ 256 ^ 7 := Nat.pow_le_pow_right (by decide) b2
  have r3 : (256 : Nat) ^ 7 = 2 ^ 56 := by decide
  refine encN_inj _ l1 l2 (Nat.le_refl _) (fun c hc => by have := a3 c hc; omega) (fun c hc => by have := b3 c hc; omega) ?_
  rw [p2, q2] at e
  have e2 := congrArg (fun x => x.toBitVec.toNat) e
  simp only [Int64.toBitVec_ofNat', BitVec.toNat_ofNat] at e2
  rw [Nat.mod_eq_of_lt (by omega), Nat.mod_eq_of_lt (by omega)] at e2
  exact e2
/-- the words that are taken, as they stand in their string -/
def sub31 (p n : Nat) : List Nat := (List.range n).map fun i => (stx 31).getD (p + 1 + i) 0
def is31 (p n : Nat) : Bool := decide (1 ≤ n ∧ p + n + 2 ≤ 91 ∧ (stx 31).getD p 0 = 32 ∧ (stx 31).getD (p + n + 1) 0 = 32) && (sub31 p n).all fun c => decide (97 ≤ c ∧ c ≤ 122)
theorem tk_all : ∀ p : Fin 91, ∀ n : Fin 8, is31 p.val n.val = true → ∃ k : Fin 20, enc (sub31 p.val n.val) = resw k.val := by decide +kernel
theorem tk_has : ∀ k : Fin 20, ∃ p : Fin 91, ∃ n : Fin 8, is31 p.val n.val = true ∧ enc (sub31 p.val n.val) = resw k.val := by decide +kernel
def mtA (T P : List Nat) (p : Nat) : Prop := p + P.length ≤ T.length ∧ ∀ i, i < P.length → T.getD (p + i) 0 = P.getD i 0
theorem stx_len : (stx 31).length = 91 := by decide
theorem sub31_len (p n : Nat) : (sub31 p n).length = n := by unfold sub31; rw [List.length_map, List.length_range]
theorem sub31_get {p n i : Nat} (hi : i < n) : (sub31 p n).getD i 0 = (stx 31).getD (p + 1 + i) 0 := by
  unfold sub31
  rw [List.getD_eq_getElem?_getD, List.getElem?_map, List.getElem?_range hi]; rfl
theorem sp_get (l : List Nat) (i : Nat) : ([32] ++ l ++ [32]).getD i 0 = if i = 0 then 32 else if i < l.length + 1 then l.getD (i - 1) 0 else if i = l.length + 1 then 32 else 0 := by
  cases i with
  | zero => rfl
  | succ i =>
    rw [if_neg (by omega), Nat.add_sub_cancel]
    show (l ++ [32]).getD i 0 = _
    rw [getD_app]
    by_cases c1 : i < l.length
    · rw [if_pos c1, if_pos (by omega)]
    · rw [if_neg c1, if_neg (show ¬ i + 1 < l.length + 1 by omega)]
      by_cases c2 : i = l.length
      · rw [if_pos c2, if_pos (by omega)]
      · rw [if_neg c2, if_neg (by omega)]
theorem ext_getD {l1 l2 : List Nat} (e : l1.length = l2.length) (hh : ∀ i, i < l1.length → l1.getD i 0 = l2.getD i 0) : l1 = l2 := by
  apply List.ext_getElem e
  intro i i1 i2
  have := hh i i1
  rw [List.getD_eq_getElem?_getD, List.getD_eq_getElem?_getD, List.getElem?_eq_getElem i1, List.getElem?_eq_getElem i2] at this
  exact this
/-- a word stands there: it is taken -/
theorem taken_iff (hl : okW l) : (∃ p, mtA (stx 31) ([32] ++ l ++ [32]) p) ↔ ∃ k, k < 20 ∧ enc l = resw k := by
  obtain ⟨a1, a2, a3⟩ := id hl
  have plen : ([32] ++ l ++ [32]).length = l.length + 2 := by simp
  constructor
  · rintro ⟨p, h1, h2⟩
    rw [plen, stx_len] at h1
    rw [plen] at h2
    have e : l = sub31 p l.length := by
      refine ext_getD (sub31_len _ _).symm fun i hi => ?_
      rw [sub31_get hi]
      have := h2 (i + 1) (by omega)
      rw [sp_get, if_neg (by omega), if_pos (by omega), Nat.add_sub_cancel] at this
      rw [← this, show p + 1 + i = p + (i + 1) by omega]
    have f1 := h2 0 (by omega)
    have f2 := h2 (l.length + 1) (by omega)
    rw [sp_get, if_pos rfl, Nat.add_zero] at f1
    rw [sp_get, if_neg (by omega), if_neg (by omega), if_pos rfl, show p + (l.length + 1) = p + l.length + 1 by omega] at f2
    have g : is31 p l.length = true := by
      unfold is31
      rw [decide_eq_true ⟨a1, by omega, f1, f2⟩, Bool.true_and, List.all_eq_true, ← e]
      exact fun c hc => decide_eq_true (a3 c hc)
    obtain ⟨k, hk⟩ := tk_all ⟨p, by omega⟩ ⟨l.length, by omega⟩ g
    exact ⟨k.val, k.isLt, by rw [← hk]; exact congrArg enc e⟩
  · rintro ⟨k, hk, e⟩
    obtain ⟨p, n, g, e2⟩ := tk_has ⟨k, hk⟩
    unfold is31 at g
    rw [Bool.and_eq_true] at g
    obtain ⟨g1, g2, g3, g4⟩ := of_decide_eq_true g.1
    have ok : okW (sub31 p.val n.val) := ⟨by rw [sub31_len]; exact g1, by rw [sub31_len]; omega, fun c hc => of_decide_eq_true ((List.all_eq_true.mp g.2) c hc)⟩
    have el : l = sub31 p.val n.val := enc_inj hl ok (by rw [e]; exact e2.symm)
    have ln : l.length = n.val := by rw [el, sub31_len]
    refine ⟨p.val, by rw [plen, stx_len]; omega, fun i hi => ?_⟩
    rw [plen] at hi
    rw [sp_get]
    by_cases c0 : i = 0
    · rw [if_pos c0, c0, Nat.add_zero]; exact g3
    · rw [if_neg c0]
      by_cases c1 : i < l.length + 1
      · rw [if_pos c1, el, sub31_get (by omega), show p.val + 1 + (i - 1) = p.val + i by omega]
      · rw [if_neg c1, if_pos (by omega), show p.val + i = p.val + n.val + 1 by omega]; exact g4
end PTC
