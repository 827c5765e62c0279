/-! the recursions closed: by depth -/
def rTW (F : Nat) : Nat → HS → Nat → Int32 → Option HS
  | 0, _, _, _ => none
  | n + 1, h, x0, x1 => fX1_tryWays F (rTW F n) h x0 x1
theorem recTW (l : Launch) [NoTr l] (F : Nat) (D : va_G) : ∀ n, RecTW l D (4 * n) (89 * n) (rTW F n)
  | 0 => fun h x0 x1 r e => by cases (show (none : Option HS) = some r from e)
  | n + 1 => fun h x0 x1 r e => metX1_tryWays l F D (4 * n) (89 * n) (rTW F n) (recTW l F D n) h x0 x1 r e
def rOne (F : Nat) : Nat → HS → Nat → Option ((Nat ⊕ Nat) × HS)
  | 0, _, _ => none
  | n + 1, h, x0 => fX13_one F (rOne F n) h x0
theorem recOne (l : Launch) [NoTr l] (F : Nat) (D : va_G) : ∀ n, RecOne l D (13 * n) (311 * n) (rOne F n)
  | 0 => fun h x0 r e => by cases (show (none : Option ((Nat ⊕ Nat) × HS)) = some r from e)
  | n + 1 => fun h x0 r e => metX13_one l F D (13 * n) (311 * n) (rOne F n) (recOne l F D n) h x0 r e
def rHold (F : Nat) : Nat → HS → Nat → Nat → Int32 → Option Int32
  | 0, _, _, _, _ => none
  | n + 1, h, a, r, p => if kT h a = 11 then fX15_holds F (rHold F n) h a r p else if kT h a = 12 then fX16_holds F h a r p else if kT h a = 13 then fX17_holds F h a r p else if kT h a = 14 then fX18_holds F (rHold F n) h a r p else none
theorem recHold (l : Launch) [NoTr l] (F : Nat) (D : va_G) : ∀ n, RecHolds l D (4 * n) (87 * n) (rHold F n)
  | 0 => fun h a r p v e => by cases (show (none : Option Int32) = some v from e)
  | n + 1 => fun h a r p v e => by
    have ih := recHold l F D n
    unfold rHold at e
    refine ⟨?_, fun ht => ?_, fun ht => ?_, fun ht => ?_, fun ht => ?_⟩
    · by_cases h1 : kT h a = 11
      · omega
      · by_cases h2 : kT h a = 12
        · omega
        · by_cases h3 : kT h a = 13
          · omega
          · by_cases h4 : kT h a = 14
            · omega
            · rw [if_neg h1, if_neg h2, if_neg h3, if_neg h4] at e; cases e
    · rw [if_pos ht] at e
      exact metX15_holds l F D (4 * n) (87 * n) (rHold F n) ih h a r p v e
    · rw [if_neg (by omega), if_pos ht] at e
      exact metX16_holds l F D (4 * n) (87 * n) h a r p v e
    · rw [if_neg (by omega), if_neg (by omega), if_pos ht] at e
      exact metX17_holds l F D (4 * n) (87 * n) h a r p v e
    · rw [if_neg (by omega), if_neg (by omega), if_neg (by omega), if_pos ht] at e
      exact metX18_holds l F D (4 * n) (87 * n) (rHold F n) ih h a r p v e
