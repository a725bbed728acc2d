/-! 'throw new NoSuchElementException()' -/
def nse : String := "java/util/NoSuchElementException"
def nseN : List String := ["java/lang/RuntimeException", "java/lang/Exception"]
theorem nse_split (L : List Cond) (h : L.all (fun w => (goodWord w && tables_1.contains w) || (isN w && tables_1.contains w)) = true) : ∀ w ∈ L, w ∈ lw_all ∨ (w ∈ lw_tbl ∧ isN w = true) := by
  intro w hw
  have h1 := List.all_eq_true.mp h w hw
  simp only [Bool.or_eq_true, Bool.and_eq_true, List.contains_iff_mem] at h1
  rcases h1 with ⟨g, m⟩ | ⟨g, m⟩
  · exact Or.inl (lw_g (List.mem_append_right _ m) g)
  · exact Or.inr ⟨List.mem_append_right _ m, g⟩
theorem nse_words : ∀ w ∈ vy_at0 RX1 12 nse nseN, w ∈ lw_all ∨ (w ∈ lw_tbl ∧ isN w = true) := nse_split _ (by decide +kernel)
