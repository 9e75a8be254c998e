/-! The tables of the classes, by kinds. -/
set_option maxRecDepth 100000
def zFN_t : List (String × String × String × Bool) := [("", "", "", false), ("RepeatFree", "tape", "[B", true), ("RepeatFree", "taped", "I", false), ("RepeatFree", "wrongAt", "I", false), ("RepeatFree", "told", "LRepeatFree$Told;", false), ("RepeatFree", "avoided", "[LRepeatFree$Pattern;", false), ("RepeatFree", "word", "LRepeatFree$Word;", false), ("RepeatFree", "past", "Ljava/util/ArrayDeque;", true), ("RepeatFree", "judged", "LRepeatFree$Word;", true), ("RepeatFree", "imaged", "LRepeatFree$Word;", true), ("RepeatFree$Told", "maps", "Ljava/util/LinkedList;", true), ("RepeatFree$Told", "patterns", "Ljava/util/LinkedList;", true), ("RepeatFree$Told", "letters", "I", false), ("RepeatFree$Told", "limit", "LRepeatFree$Limit;", false), ("RepeatFree$Word", "at", "[B", true), ("RepeatFree$Word", "many", "I", false), ("RepeatFree$Limit", "kind", "I", true), ("RepeatFree$Limit", "above", "I", true), ("RepeatFree$Limit", "below", "I", true), ("RepeatFree$Named", "name", "Ljava/lang/String;", true), ("RepeatFree$Mapping", "images", "[[B", true), ("RepeatFree$Pattern", "shape", "Ljava/lang/String;", true), ("RepeatFree$Pattern", "isAvoided", "Z", false), ("RepeatFree$Pattern", "size", "[I", true), ("RepeatFree$Pattern", "from", "[I", true), ("RepeatFree$Pattern", "word", "LRepeatFree$Word;", false), ("RepeatFree$Search", "its", "LRepeatFree$Word;", true), ("RepeatFree$Search", "tries", "I", false), ("RepeatFree$Search", "isCut", "Z", false), ("RepeatFree$Search", "this$0", "LRepeatFree;", true), ("RepeatFree$Run", "place", "I", true), ("RepeatFree$Run", "size", "I", true), ("RepeatFree$Run", "period", "I", true), ("RepeatFree$Reader", "own", "Ljava/util/List;", true), ("RepeatFree$Reader", "text", "[B", true), ("RepeatFree$Reader", "size", "I", true), ("RepeatFree$Reader", "told", "LRepeatFree$Told;", true), ("RepeatFree$Reader", "at", "I", false), ("java/lang/Throwable", "cause", "Ljava/lang/Throwable;", false), ("java/lang/Throwable", "stackTrace", "[Ljava/lang/StackTraceElement;", false), ("java/lang/Throwable", "suppressedExceptions", "Ljava/util/List;", false), ("java/lang/Throwable", "detailMessage", "Ljava/lang/String;", false), ("java/lang/Throwable", "backtrace", "Ljava/lang/Object;", false), ("java/lang/Throwable", "depth", "I", false), ("RepeatFree$Wrong", "place", "I", true), ("RepeatFreeModel", "thrown", "I", false), ("RepeatFreeModel", "tape", "[B", true), ("RepeatFreeModel", "taped", "I", false), ("RepeatFreeModel", "five", "[I", true), ("RepeatFreeModel", "point", "I", false), ("RepeatFreeModel", "begin", "I", false), ("RepeatFreeModel", "size", "I", false), ("RepeatFreeModel", "faultAt", "I", false), ("RepeatFreeModel", "fault", "I", false), ("RepeatFreeModel", "told", "[I", true), ("RepeatFreeModel", "draft", "[I", true), ("RepeatFreeModel", "hasLimit", "Z", false), ("RepeatFreeModel", "word", "[I", true), ("RepeatFreeModel", "given", "[I", true), ("RepeatFreeModel", "many", "I", false), ("RepeatFreeModel", "acts", "I", false), ("RepeatFreeModel", "past", "[I", true), ("RepeatFreeModel", "sizes", "[I", true), ("RepeatFreeModel", "begun", "[I", true), ("RepeatFreeModel", "row", "[I", true), ("RepeatFreeModel", "tries", "I", false), ("RepeatFreeModel", "foundMany", "I", false), ("RepeatFreeModel", "isCut", "Z", false), ("RepeatFreeModel", "wanted", "I", false), ("RepeatFreeModel", "mapNow", "I", false), ("RepeatFreeModel", "isFound", "Z", false), ("RepeatFreeModel", "imaged", "[I", true), ("RepeatFreeModel", "counts", "[J", true), ("RepeatFreeModel", "sums", "[J", true), ("RepeatFreeModel", "hangs", "[Z", true), ("RepeatFreeModel", "isNoCode", "Z", false), ("RepeatFreeModel", "joined", "[I", true), ("java/util/AbstractList", "modCount", "I", false), ("java/util/LinkedList", "size", "I", false), ("java/util/LinkedList", "first", "Ljava/util/LinkedList$Node;", false), ("java/util/LinkedList", "last", "Ljava/util/LinkedList$Node;", false), ("java/util/LinkedList$Node", "item", "Ljava/lang/Object;", false), ("java/util/LinkedList$Node", "next", "Ljava/util/LinkedList$Node;", false), ("java/util/LinkedList$Node", "prev", "Ljava/util/LinkedList$Node;", false), ("java/util/LinkedList$ListItr", "lastReturned", "Ljava/util/LinkedList$Node;", false), ("java/util/LinkedList$ListItr", "next", "Ljava/util/LinkedList$Node;", false), ("java/util/LinkedList$ListItr", "nextIndex", "I", false), ("java/util/LinkedList$ListItr", "expectedModCount", "I", false), ("java/util/LinkedList$ListItr", "this$0", "Ljava/util/LinkedList;", true), ("java/util/ArrayDeque", "elements", "[Ljava/lang/Object;", false), ("java/util/ArrayDeque", "head", "I", false), ("java/util/ArrayDeque", "tail", "I", false), ("java/util/BitSet", "words", "[J", false), ("java/util/BitSet", "wordsInUse", "I", false), ("java/util/BitSet", "sizeIsSticky", "Z", false), ("java/lang/AbstractStringBuilder", "value", "[B", false), ("java/lang/AbstractStringBuilder", "coder", "B", false), ("java/lang/AbstractStringBuilder", "maybeLatin1", "Z", false), ("java/lang/AbstractStringBuilder", "count", "I", false), ("java/lang/String", "value", "[B", true), ("java/lang/String", "coder", "B", true), ("java/lang/String", "hash", "I", false), ("java/lang/String", "hashIsZero", "Z", false), ("java/lang/Integer", "value", "I", true), ("java/util/ImmutableCollections$ListN", "elements", "[Ljava/lang/Object;", true), ("java/util/ImmutableCollections$ListN", "allowNulls", "Z", true)]
def zFN (f : Nat) : String × String × String × Bool := (zFN_t[f]?).getD ("", "", "", false)
def zsort (t : FieldType) : Nat := match t with
  | .int => 0
  | .boolean => 1
  | .long => 2
  | .object _ | .array _ => 3
  | .byte => 4
  | _ => 9
def zchk (c N : Nat) (T : u_T) (ty : Nat → FieldType) : Bool := decide ((zOF c).length = N) && (List.range N).all (fun k => match (zOF c)[k]? with
  | some f => decide (T k = zFN f) && decide (zsort (ty k) = zFT f) && decide (zFT f ≠ 9)
  | none => false)
/-- what the tables say of the class of a kind -/
def zCls (c : Nat) (C : String) (T : u_T) (N : Nat) (ty : Nat → FieldType) : Prop := zcl[c - 100]? = some (C, T, N) ∧ (zOF c).length = N ∧ (∀ w ∈ u_ws C T N, w ∈ lw_all) ∧ (∀ k, k < N → parseFieldDescriptor (T k).2.2.1 = some (ty k)) ∧ (∀ a, a < N → ∀ b, b < N → a ≠ b → (T a).2.1 ≠ (T b).2.1) ∧ (∀ k f, (zOF c)[k]? = some f → T k = zFN f ∧ zsort (ty k) = zFT f ∧ zFT f ≠ 9) ∧ Cond.instantiable C N ∈ lw_all ∧ Cond.initialized C ∈ lw_all
theorem zchk_of {c N : Nat} {T : u_T} {ty : Nat → FieldType} (h : zchk c N T ty = true) : (zOF c).length = N ∧ ∀ k f, (zOF c)[k]? = some f → T k = zFN f ∧ zsort (ty k) = zFT f ∧ zFT f ≠ 9 := by
  unfold zchk at h
  rw [Bool.and_eq_true, decide_eq_true_eq] at h
  refine ⟨h.1, fun k f hf => ?_⟩
  have hk : k < N := by rw [← h.1]; exact (List.getElem?_eq_some_iff.mp hf).1
  have := List.all_eq_true.mp h.2 k (List.mem_range.mpr hk)
  rw [hf] at this
  simp only [Bool.and_eq_true, decide_eq_true_eq] at this
  exact ⟨this.1.1, this.1.2, this.2⟩
theorem zC_100 : zCls 100 RX1 TX1 9 tyX1 := ⟨rfl, (zchk_of (by decide +kernel : zchk 100 9 TX1 tyX1 = true)).1, in_X1, tyX1_ok, nmX1, (zchk_of (by decide +kernel : zchk 100 9 TX1 tyX1 = true)).2, q169, q116⟩
theorem zC_101 : zCls 101 RX2 TX2 4 tyX2 := ⟨rfl, (zchk_of (by decide +kernel : zchk 101 4 TX2 tyX2 = true)).1, in_X2, tyX2_ok, nmX2, (zchk_of (by decide +kernel : zchk 101 4 TX2 tyX2 = true)).2, q177, q117⟩
theorem zC_102 : zCls 102 RX3 TX3 2 tyX3 := ⟨rfl, (zchk_of (by decide +kernel : zchk 102 2 TX3 tyX3 = true)).1, in_X3, tyX3_ok, nmX3, (zchk_of (by decide +kernel : zchk 102 2 TX3 tyX3 = true)).2, q240, q122⟩
theorem zC_103 : zCls 103 RX7 TX7 3 tyX7 := ⟨rfl, (zchk_of (by decide +kernel : zchk 103 3 TX7 tyX7 = true)).1, in_X7, tyX7_ok, nmX7, (zchk_of (by decide +kernel : zchk 103 3 TX7 tyX7 = true)).2, q1135, q150⟩
theorem zC_104 : zCls 104 RX9 TX9 2 tyX9 := ⟨rfl, (zchk_of (by decide +kernel : zchk 104 2 TX9 tyX9 = true)).1, in_X9, tyX9_ok, nmX9, (zchk_of (by decide +kernel : zchk 104 2 TX9 tyX9 = true)).2, q1158, q152⟩
theorem zC_105 : zCls 105 RX10 TX10 6 tyX10 := ⟨rfl, (zchk_of (by decide +kernel : zchk 105 6 TX10 tyX10 = true)).1, in_X10, tyX10_ok, nmX10, (zchk_of (by decide +kernel : zchk 105 6 TX10 tyX10 = true)).2, q464, q159⟩
theorem zC_106 : zCls 106 RX12 TX12 4 tyX12 := ⟨rfl, (zchk_of (by decide +kernel : zchk 106 4 TX12 tyX12 = true)).1, in_X12, tyX12_ok, nmX12, (zchk_of (by decide +kernel : zchk 106 4 TX12 tyX12 = true)).2, q569, q166⟩
theorem zC_107 : zCls 107 RX11 TX11 3 tyX11 := ⟨rfl, (zchk_of (by decide +kernel : zchk 107 3 TX11 tyX11 = true)).1, in_X11, tyX11_ok, nmX11, (zchk_of (by decide +kernel : zchk 107 3 TX11 tyX11 = true)).2, q1739, q163⟩
theorem zC_108 : zCls 108 RX5 TX5 5 tyX5 := ⟨rfl, (zchk_of (by decide +kernel : zchk 108 5 TX5 tyX5 = true)).1, in_X5, tyX5_ok, nmX5, (zchk_of (by decide +kernel : zchk 108 5 TX5 tyX5 = true)).2, q639, q125⟩
theorem zC_109 : zCls 109 RX6 TX6 7 tyX6 := ⟨rfl, (zchk_of (by decide +kernel : zchk 109 7 TX6 tyX6 = true)).1, in_X6, tyX6_ok, nmX6, (zchk_of (by decide +kernel : zchk 109 7 TX6 tyX6 = true)).2, q1035, q149⟩
theorem zC_110 : zCls 110 RX4 TX4 32 tyX4 := ⟨rfl, (zchk_of (by decide +kernel : zchk 110 32 TX4 tyX4 = true)).1, in_X4, tyX4_ok, nmX4, (zchk_of (by decide +kernel : zchk 110 32 TX4 tyX4 = true)).2, q2257, q124⟩
theorem zC_111 : zCls 111 RJ3 TJ3 4 tyJ3 := ⟨rfl, (zchk_of (by decide +kernel : zchk 111 4 TJ3 tyJ3 = true)).1, in_J3, tyJ3_ok, nmJ3, (zchk_of (by decide +kernel : zchk 111 4 TJ3 tyJ3 = true)).2, q183, q121⟩
theorem zC_112 : zCls 112 RJ31 TJ31 3 tyJ31 := ⟨rfl, (zchk_of (by decide +kernel : zchk 112 3 TJ31 tyJ31 = true)).1, in_J31, tyJ31_ok, nmJ31, (zchk_of (by decide +kernel : zchk 112 3 TJ31 tyJ31 = true)).2, q1469, q158⟩
theorem zC_113 : zCls 113 RJ29 TJ29 5 tyJ29 := ⟨rfl, (zchk_of (by decide +kernel : zchk 113 5 TJ29 tyJ29 = true)).1, in_J29, tyJ29_ok, nmJ29, (zchk_of (by decide +kernel : zchk 113 5 TJ29 tyJ29 = true)).2, q1288, q156⟩
theorem zC_114 : zCls 114 RJ4 TJ4 3 tyJ4 := ⟨rfl, (zchk_of (by decide +kernel : zchk 114 3 TJ4 tyJ4 = true)).1, in_J4, tyJ4_ok, nmJ4, (zchk_of (by decide +kernel : zchk 114 3 TJ4 tyJ4 = true)).2, q257, q123⟩
theorem zC_115 : zCls 115 RJ33 TJ33 3 tyJ33 := ⟨rfl, (zchk_of (by decide +kernel : zchk 115 3 TJ33 tyJ33 = true)).1, in_J33, tyJ33_ok, nmJ33, (zchk_of (by decide +kernel : zchk 115 3 TJ33 tyJ33 = true)).2, q1663, q161⟩
theorem zC_116 : zCls 116 RJ13 TJ13 4 tyJ13 := ⟨rfl, (zchk_of (by decide +kernel : zchk 116 4 TJ13 tyJ13 = true)).1, in_J13, tyJ13_ok, nmJ13, (zchk_of (by decide +kernel : zchk 116 4 TJ13 tyJ13 = true)).2, q777, q134⟩
theorem zC_117 : zCls 117 RJ14 TJ14 4 tyJ14 := ⟨rfl, (zchk_of (by decide +kernel : zchk 117 4 TJ14 tyJ14 = true)).1, in_J14, tyJ14_ok, nmJ14, (zchk_of (by decide +kernel : zchk 117 4 TJ14 tyJ14 = true)).2, q880, q135⟩
theorem zC_118 : zCls 118 RJ26 TJ26 1 tyJ26 := ⟨rfl, (zchk_of (by decide +kernel : zchk 118 1 TJ26 tyJ26 = true)).1, in_J26, tyJ26_ok, nmJ26, (zchk_of (by decide +kernel : zchk 118 1 TJ26 tyJ26 = true)).2, q2043, q148⟩
theorem zC_119 : zCls 119 RJ11 TJ11 2 tyJ11 := ⟨rfl, (zchk_of (by decide +kernel : zchk 119 2 TJ11 tyJ11 = true)).1, in_J11, tyJ11_ok, nmJ11, (zchk_of (by decide +kernel : zchk 119 2 TJ11 tyJ11 = true)).2, q726, q132⟩
theorem zC_all {c : Nat} (h1 : 100 ≤ c) (h2 : c ≤ 119) : ∃ C T N ty, zCls c C T N ty := by
  have h : c = 100 ∨ c = 101 ∨ c = 102 ∨ c = 103 ∨ c = 104 ∨ c = 105 ∨ c = 106 ∨ c = 107 ∨ c = 108 ∨ c = 109 ∨ c = 110 ∨ c = 111 ∨ c = 112 ∨ c = 113 ∨ c = 114 ∨ c = 115 ∨ c = 116 ∨ c = 117 ∨ c = 118 ∨ c = 119 := by omega
  rcases h with rfl | rfl | rfl | rfl | rfl | rfl | rfl | rfl | rfl | rfl | rfl | rfl | rfl | rfl | rfl | rfl | rfl | rfl | rfl | rfl
  · exact ⟨_, _, _, _, zC_100⟩
  · exact ⟨_, _, _, _, zC_101⟩
  · exact ⟨_, _, _, _, zC_102⟩
  · exact ⟨_, _, _, _, zC_103⟩
  · exact ⟨_, _, _, _, zC_104⟩
  · exact ⟨_, _, _, _, zC_105⟩
  · exact ⟨_, _, _, _, zC_106⟩
  · exact ⟨_, _, _, _, zC_107⟩
  · exact ⟨_, _, _, _, zC_108⟩
  · exact ⟨_, _, _, _, zC_109⟩
  · exact ⟨_, _, _, _, zC_110⟩
  · exact ⟨_, _, _, _, zC_111⟩
  · exact ⟨_, _, _, _, zC_112⟩
  · exact ⟨_, _, _, _, zC_113⟩
  · exact ⟨_, _, _, _, zC_114⟩
  · exact ⟨_, _, _, _, zC_115⟩
  · exact ⟨_, _, _, _, zC_116⟩
  · exact ⟨_, _, _, _, zC_117⟩
  · exact ⟨_, _, _, _, zC_118⟩
  · exact ⟨_, _, _, _, zC_119⟩
theorem zfit {ρ : Nat → Value} {n : Nat} (hρ : ∀ a, a < n → ρ a = .null ∨ ∃ q, ρ a = .ref q) {v : V} (hv : vok n v) {ty : FieldType} (h : zok (zsort ty) v = true) : narrow ty (cv ρ v) = cv ρ v ∧ fits ty (cv ρ v) = true := by
  rcases v with x | x | (_ | a) | u
  · have hx : -2147483648 ≤ x ∧ x ≤ 2147483647 := hv
    cases ty with
    | int => exact ⟨rfl, rfl⟩
    | boolean =>
      have h : decide (x = 0 ∨ x = 1) = true := h
      rcases of_decide_eq_true h with rfl | rfl
      · exact ⟨rfl, rfl⟩
      · exact ⟨rfl, rfl⟩
    | byte =>
      have h : decide (-128 ≤ x ∧ x ≤ 127) = true := h
      have h := of_decide_eq_true h
      refine ⟨?_, ?_⟩
      · show Value.int _ = _
        have e : (Int32.ofInt x).toInt8.toInt32 = Int32.ofInt x := by rw [← cI_b, wb_id h]
        exact congrArg Value.int e
      · show (decide (-128 ≤ Int32.ofInt x) && decide (Int32.ofInt x ≤ 127)) = true
        rw [Bool.and_eq_true, decide_eq_true_eq, decide_eq_true_eq]
        exact ⟨(c32_le (x := -128) (by omega) hx).mpr h.1, (c32_le (y := 127) hx (by omega)).mpr h.2⟩
    | _ => cases h
  · cases ty with
    | long => exact ⟨rfl, rfl⟩
    | _ => cases h
  · cases ty with
    | object _ => exact ⟨rfl, rfl⟩
    | array _ => exact ⟨rfl, rfl⟩
    | _ => cases h
  · have e : cv ρ (.inr (.inr (.inl (some a)))) = ρ a := rfl
    rw [e]
    rcases hρ a hv with e1 | ⟨q, e1⟩
    · rw [e1]
      cases ty with
      | object _ => exact ⟨rfl, rfl⟩
      | array _ => exact ⟨rfl, rfl⟩
      | _ => cases h
    · rw [e1]
      cases ty with
      | object _ => exact ⟨rfl, rfl⟩
      | array _ => exact ⟨rfl, rfl⟩
      | _ => cases h
  · cases h
