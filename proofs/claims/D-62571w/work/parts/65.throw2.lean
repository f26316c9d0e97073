/-! the words that a throw asks for -/
def isZ1 : Cond := .isRef (.static "java/lang/Throwable" "UNASSIGNED_STACK" "[Ljava/lang/StackTraceElement;")
def isZ2 : Cond := .isRef (.static "java/lang/Throwable" "SUPPRESSED_SENTINEL" "Ljava/util/List;")
def isZ3 : Cond := .laysStatic "java/lang/Throwable" "UNASSIGNED_STACK" "[Ljava/lang/StackTraceElement;"
def isZ4 : Cond := .laysStatic "java/lang/Throwable" "SUPPRESSED_SENTINEL" "Ljava/util/List;"
/-- the words of a throw lie in the tables -/
def thW (own : String) (ic : Nat) (X : String) (names : List String) : Prop := ∀ a ∈ Bundle.ownAtoms0 own ic X names, a ∈ tb ∨ a ∈ nst ∨ a = isZ1 ∨ a = isZ2 ∨ a = isZ3 ∨ a = isZ4
def thOk (own : String) (ic : Nat) (X : String) (names : List String) : Bool := (Bundle.ownAtoms0 own ic X names).all (fun a => (lw_tbl.contains a && (goodWord a || jNest a)) || decide (a = isZ1) || decide (a = isZ2) || decide (a = isZ3) || decide (a = isZ4))
theorem thW_of {own : String} {ic : Nat} {X : String} {names : List String} (h : thOk own ic X names = true) : thW own ic X names := by
  intro a ha
  have := List.all_eq_true.mp h a ha
  simp only [Bool.or_eq_true, Bool.and_eq_true, decide_eq_true_eq, List.contains_iff_mem] at this
  rcases this with (((⟨h1, h2 | h2⟩ | h1) | h1) | h1) | h1
  · exact Or.inl (tb_in h1 h2)
  · exact Or.inr (Or.inl (nst_in h1 h2))
  · exact Or.inr (Or.inr (Or.inl h1))
  · exact Or.inr (Or.inr (Or.inr (Or.inl h1)))
  · exact Or.inr (Or.inr (Or.inr (Or.inr (Or.inl h1))))
  · exact Or.inr (Or.inr (Or.inr (Or.inr (Or.inr h1))))
theorem thW_IA : thW "ChartForest" 101 "java/lang/IllegalArgumentException" ["java/lang/RuntimeException", "java/lang/Exception"] := thW_of (by decide +kernel)
theorem thW_IS : thW "ChartForest" 115 "java/lang/IllegalStateException" ["java/lang/RuntimeException", "java/lang/Exception"] := thW_of (by decide +kernel)
theorem thW_NS : thW "ChartForest" 177 "java/util/NoSuchElementException" ["java/lang/RuntimeException", "java/lang/Exception"] := thW_of (by decide +kernel)
theorem thW_IO : thW "ChartForest" 242 "java/lang/IndexOutOfBoundsException" ["java/lang/RuntimeException", "java/lang/Exception"] := thW_of (by decide +kernel)
