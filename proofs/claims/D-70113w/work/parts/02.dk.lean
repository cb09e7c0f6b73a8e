/-! DECODE ROWS BY BYTES: one lemma an opcode; a method's code is cut into short pieces once, and a row reads its own piece alone. -/
set_option maxRecDepth 100000
/-- the code has just these bytes from pc on -/
def DkAt (code : ByteArray) (pc : Nat) (bs : List UInt8) : Prop := ∀ (j : Nat) (b : UInt8), bs[j]? = some b → code.data.toList[pc + j]? = some b
/-- the piece W has the bytes bs from its place j on -/
def dkIn (W : List UInt8) (j : Nat) (bs : List UInt8) : Bool := decide ((W.drop j).take bs.length = bs)
theorem dk_seg {l W T : List UInt8} {o o2 : Nat} (h : l.drop o = W ++ T) (n : Nat) (hn : W.length = n) (ho : o + n = o2) : l.drop o2 = T := by
  subst ho
  rw [← List.drop_drop, h, List.drop_left' hn]
theorem dk_at {code : ByteArray} {W T bs : List UInt8} {o pc : Nat} (h : code.data.toList.drop o = W ++ T) (j : Nat) (hp : o + j = pc) (hw : dkIn W j bs = true) : DkAt code pc bs := by
  subst hp
  intro i b e
  have h1 := of_decide_eq_true hw
  have h2 : i < bs.length := (List.getElem?_eq_some_iff.mp e).1
  have h3 : W[j + i]? = some b := by
    rw [← h1, List.getElem?_take, if_pos h2, List.getElem?_drop] at e
    exact e
  have h4 : j + i < W.length := (List.getElem?_eq_some_iff.mp h3).1
  have h5 : (code.data.toList.drop o)[j + i]? = some b := by
    rw [h, List.getElem?_append_left h4]
    exact h3
  rw [List.getElem?_drop, ← Nat.add_assoc] at h5
  exact h5
theorem dk_u1 {A : ByteArray} {p : Nat} {b : UInt8} (h : A.data.toList[p]? = some b) : (Reader.u1 : Reader DecodeError Nat) A p = .ok (b.toNat, p + 1) := by
  obtain ⟨h1, h2⟩ := List.getElem?_eq_some_iff.mp h
  have h3 : p < A.size := by simpa using h1
  have h4 : A[p]'h3 = b := h2
  have e : (Reader.u1 : Reader DecodeError Nat) A p = (if h : p < A.size then .ok (A[p].toNat, p + 1) else .error (HasTruncated.truncated p)) := by
    show (do if h : p < A.size then do set (p + 1); Pure.pure A[p].toNat else MonadExcept.throw (HasTruncated.truncated p) : Reader DecodeError Nat) A p = _
    by_cases hi : p < A.size
    · rw [dif_pos hi, dif_pos hi]; rfl
    · rw [dif_neg hi, dif_neg hi]; rfl
  rw [e, dif_pos h3, h4]
theorem dk_bind {α β : Type} {r : Reader DecodeError α} {f : α → Reader DecodeError β} {A : ByteArray} {p s : Nat} {a : α} (h : r A p = .ok (a, s)) : (r >>= f) A p = f a A s := by
  show (do let (a, s) ← r A p; f a A s : Except DecodeError (β × Nat)) = _
  rw [h]
  rfl
theorem dk_map {α β : Type} {r : Reader DecodeError α} {g : α → β} {A : ByteArray} {p s : Nat} {a : α} (h : r A p = .ok (a, s)) : (g <$> r) A p = .ok (g a, s) := by
  show (do let (a, s) ← r A p; .ok (g a, s) : Except DecodeError (β × Nat)) = _
  rw [h]
  rfl
theorem dk_u2 {A : ByteArray} {p : Nat} {a b : UInt8} (h : A.data.toList[p]? = some a) (h2 : A.data.toList[p + 1]? = some b) : (Reader.u2 : Reader DecodeError Nat) A p = .ok (a.toNat * 256 + b.toNat, p + 2) := by
  show (Reader.u1 >>= fun hi => Reader.u1 >>= fun lo => Pure.pure (hi * 256 + lo) : Reader DecodeError Nat) A p = _
  rw [dk_bind (dk_u1 h), dk_bind (dk_u1 h2)]
  rfl
theorem dk_of {code : ByteArray} {pc n : Nat} {i : Instr} (h : Decoder.instr pc code pc = .ok (i, pc + n)) : decode code pc = .ok (i, n) := by
  have e : decode code pc = (match Decoder.instr pc code pc with | .error x => .error x | .ok (j, s) => .ok (j, s - pc)) := by
    show (do let (j, s) ← Decoder.instr pc code pc; Pure.pure (j, s - pc) : Except DecodeError (Instr × Nat)) = _
    cases Decoder.instr pc code pc <;> rfl
  rw [e, h]
  show Except.ok (i, pc + n - pc) = _
  rw [Nat.add_sub_cancel_left]
theorem dk_1 {code : ByteArray} {pc : Nat} (h : DkAt code pc [1]) : decode code pc = .ok (.aconst_null, 1) := dk_of ((dk_bind (dk_u1 (h 0 _ rfl))).trans rfl)
theorem dk_2 {code : ByteArray} {pc : Nat} (h : DkAt code pc [2]) : decode code pc = .ok (.iconst (-1), 1) := dk_of ((dk_bind (dk_u1 (h 0 _ rfl))).trans rfl)
theorem dk_3 {code : ByteArray} {pc : Nat} (h : DkAt code pc [3]) : decode code pc = .ok (.iconst 0, 1) := dk_of ((dk_bind (dk_u1 (h 0 _ rfl))).trans rfl)
theorem dk_4 {code : ByteArray} {pc : Nat} (h : DkAt code pc [4]) : decode code pc = .ok (.iconst 1, 1) := dk_of ((dk_bind (dk_u1 (h 0 _ rfl))).trans rfl)
theorem dk_5 {code : ByteArray} {pc : Nat} (h : DkAt code pc [5]) : decode code pc = .ok (.iconst 2, 1) := dk_of ((dk_bind (dk_u1 (h 0 _ rfl))).trans rfl)
theorem dk_6 {code : ByteArray} {pc : Nat} (h : DkAt code pc [6]) : decode code pc = .ok (.iconst 3, 1) := dk_of ((dk_bind (dk_u1 (h 0 _ rfl))).trans rfl)
theorem dk_7 {code : ByteArray} {pc : Nat} (h : DkAt code pc [7]) : decode code pc = .ok (.iconst 4, 1) := dk_of ((dk_bind (dk_u1 (h 0 _ rfl))).trans rfl)
theorem dk_8 {code : ByteArray} {pc : Nat} (h : DkAt code pc [8]) : decode code pc = .ok (.iconst 5, 1) := dk_of ((dk_bind (dk_u1 (h 0 _ rfl))).trans rfl)
theorem dk_10 {code : ByteArray} {pc : Nat} (h : DkAt code pc [10]) : decode code pc = .ok (.lconst 1, 1) := dk_of ((dk_bind (dk_u1 (h 0 _ rfl))).trans rfl)
theorem dk_16 {code : ByteArray} {pc : Nat} (a : UInt8) (h : DkAt code pc [16, a]) : decode code pc = .ok (.bipush (Reader.signed 8 a.toNat), 2) := dk_of ((dk_bind (dk_u1 (h 0 _ rfl))).trans ((dk_bind (dk_map (dk_u1 (h 1 _ rfl)))).trans rfl))
theorem dk_17 {code : ByteArray} {pc : Nat} (a b : UInt8) (h : DkAt code pc [17, a, b]) : decode code pc = .ok (.sipush (Reader.signed 16 (a.toNat * 256 + b.toNat)), 3) := dk_of ((dk_bind (dk_u1 (h 0 _ rfl))).trans ((dk_bind (dk_map (dk_u2 (h 1 _ rfl) (h 2 _ rfl)))).trans rfl))
theorem dk_18 {code : ByteArray} {pc : Nat} (a : UInt8) (h : DkAt code pc [18, a]) : decode code pc = .ok (.ldc a.toNat, 2) := dk_of ((dk_bind (dk_u1 (h 0 _ rfl))).trans ((dk_bind (dk_u1 (h 1 _ rfl))).trans rfl))
theorem dk_20 {code : ByteArray} {pc : Nat} (a b : UInt8) (h : DkAt code pc [20, a, b]) : decode code pc = .ok (.ldc2_w (a.toNat * 256 + b.toNat), 3) := dk_of ((dk_bind (dk_u1 (h 0 _ rfl))).trans ((dk_bind (dk_u2 (h 1 _ rfl) (h 2 _ rfl))).trans rfl))
theorem dk_21 {code : ByteArray} {pc : Nat} (a : UInt8) (h : DkAt code pc [21, a]) : decode code pc = .ok (.iload a.toNat, 2) := dk_of ((dk_bind (dk_u1 (h 0 _ rfl))).trans ((dk_bind (dk_u1 (h 1 _ rfl))).trans rfl))
theorem dk_22 {code : ByteArray} {pc : Nat} (a : UInt8) (h : DkAt code pc [22, a]) : decode code pc = .ok (.lload a.toNat, 2) := dk_of ((dk_bind (dk_u1 (h 0 _ rfl))).trans ((dk_bind (dk_u1 (h 1 _ rfl))).trans rfl))
theorem dk_26 {code : ByteArray} {pc : Nat} (h : DkAt code pc [26]) : decode code pc = .ok (.iload_n 0, 1) := dk_of ((dk_bind (dk_u1 (h 0 _ rfl))).trans rfl)
theorem dk_27 {code : ByteArray} {pc : Nat} (h : DkAt code pc [27]) : decode code pc = .ok (.iload_n 1, 1) := dk_of ((dk_bind (dk_u1 (h 0 _ rfl))).trans rfl)
theorem dk_28 {code : ByteArray} {pc : Nat} (h : DkAt code pc [28]) : decode code pc = .ok (.iload_n 2, 1) := dk_of ((dk_bind (dk_u1 (h 0 _ rfl))).trans rfl)
theorem dk_29 {code : ByteArray} {pc : Nat} (h : DkAt code pc [29]) : decode code pc = .ok (.iload_n 3, 1) := dk_of ((dk_bind (dk_u1 (h 0 _ rfl))).trans rfl)
theorem dk_42 {code : ByteArray} {pc : Nat} (h : DkAt code pc [42]) : decode code pc = .ok (.aload_n 0, 1) := dk_of ((dk_bind (dk_u1 (h 0 _ rfl))).trans rfl)
theorem dk_43 {code : ByteArray} {pc : Nat} (h : DkAt code pc [43]) : decode code pc = .ok (.aload_n 1, 1) := dk_of ((dk_bind (dk_u1 (h 0 _ rfl))).trans rfl)
theorem dk_44 {code : ByteArray} {pc : Nat} (h : DkAt code pc [44]) : decode code pc = .ok (.aload_n 2, 1) := dk_of ((dk_bind (dk_u1 (h 0 _ rfl))).trans rfl)
theorem dk_45 {code : ByteArray} {pc : Nat} (h : DkAt code pc [45]) : decode code pc = .ok (.aload_n 3, 1) := dk_of ((dk_bind (dk_u1 (h 0 _ rfl))).trans rfl)
theorem dk_46 {code : ByteArray} {pc : Nat} (h : DkAt code pc [46]) : decode code pc = .ok (.iaload, 1) := dk_of ((dk_bind (dk_u1 (h 0 _ rfl))).trans rfl)
theorem dk_50 {code : ByteArray} {pc : Nat} (h : DkAt code pc [50]) : decode code pc = .ok (.aaload, 1) := dk_of ((dk_bind (dk_u1 (h 0 _ rfl))).trans rfl)
theorem dk_51 {code : ByteArray} {pc : Nat} (h : DkAt code pc [51]) : decode code pc = .ok (.baload, 1) := dk_of ((dk_bind (dk_u1 (h 0 _ rfl))).trans rfl)
theorem dk_54 {code : ByteArray} {pc : Nat} (a : UInt8) (h : DkAt code pc [54, a]) : decode code pc = .ok (.istore a.toNat, 2) := dk_of ((dk_bind (dk_u1 (h 0 _ rfl))).trans ((dk_bind (dk_u1 (h 1 _ rfl))).trans rfl))
theorem dk_55 {code : ByteArray} {pc : Nat} (a : UInt8) (h : DkAt code pc [55, a]) : decode code pc = .ok (.lstore a.toNat, 2) := dk_of ((dk_bind (dk_u1 (h 0 _ rfl))).trans ((dk_bind (dk_u1 (h 1 _ rfl))).trans rfl))
theorem dk_60 {code : ByteArray} {pc : Nat} (h : DkAt code pc [60]) : decode code pc = .ok (.istore_n 1, 1) := dk_of ((dk_bind (dk_u1 (h 0 _ rfl))).trans rfl)
theorem dk_61 {code : ByteArray} {pc : Nat} (h : DkAt code pc [61]) : decode code pc = .ok (.istore_n 2, 1) := dk_of ((dk_bind (dk_u1 (h 0 _ rfl))).trans rfl)
theorem dk_62 {code : ByteArray} {pc : Nat} (h : DkAt code pc [62]) : decode code pc = .ok (.istore_n 3, 1) := dk_of ((dk_bind (dk_u1 (h 0 _ rfl))).trans rfl)
theorem dk_76 {code : ByteArray} {pc : Nat} (h : DkAt code pc [76]) : decode code pc = .ok (.astore_n 1, 1) := dk_of ((dk_bind (dk_u1 (h 0 _ rfl))).trans rfl)
theorem dk_77 {code : ByteArray} {pc : Nat} (h : DkAt code pc [77]) : decode code pc = .ok (.astore_n 2, 1) := dk_of ((dk_bind (dk_u1 (h 0 _ rfl))).trans rfl)
theorem dk_79 {code : ByteArray} {pc : Nat} (h : DkAt code pc [79]) : decode code pc = .ok (.iastore, 1) := dk_of ((dk_bind (dk_u1 (h 0 _ rfl))).trans rfl)
theorem dk_83 {code : ByteArray} {pc : Nat} (h : DkAt code pc [83]) : decode code pc = .ok (.aastore, 1) := dk_of ((dk_bind (dk_u1 (h 0 _ rfl))).trans rfl)
theorem dk_84 {code : ByteArray} {pc : Nat} (h : DkAt code pc [84]) : decode code pc = .ok (.bastore, 1) := dk_of ((dk_bind (dk_u1 (h 0 _ rfl))).trans rfl)
theorem dk_87 {code : ByteArray} {pc : Nat} (h : DkAt code pc [87]) : decode code pc = .ok (.pop, 1) := dk_of ((dk_bind (dk_u1 (h 0 _ rfl))).trans rfl)
theorem dk_89 {code : ByteArray} {pc : Nat} (h : DkAt code pc [89]) : decode code pc = .ok (.dup, 1) := dk_of ((dk_bind (dk_u1 (h 0 _ rfl))).trans rfl)
theorem dk_92 {code : ByteArray} {pc : Nat} (h : DkAt code pc [92]) : decode code pc = .ok (.dup2, 1) := dk_of ((dk_bind (dk_u1 (h 0 _ rfl))).trans rfl)
theorem dk_96 {code : ByteArray} {pc : Nat} (h : DkAt code pc [96]) : decode code pc = .ok (.iadd, 1) := dk_of ((dk_bind (dk_u1 (h 0 _ rfl))).trans rfl)
theorem dk_97 {code : ByteArray} {pc : Nat} (h : DkAt code pc [97]) : decode code pc = .ok (.ladd, 1) := dk_of ((dk_bind (dk_u1 (h 0 _ rfl))).trans rfl)
theorem dk_100 {code : ByteArray} {pc : Nat} (h : DkAt code pc [100]) : decode code pc = .ok (.isub, 1) := dk_of ((dk_bind (dk_u1 (h 0 _ rfl))).trans rfl)
theorem dk_104 {code : ByteArray} {pc : Nat} (h : DkAt code pc [104]) : decode code pc = .ok (.imul, 1) := dk_of ((dk_bind (dk_u1 (h 0 _ rfl))).trans rfl)
theorem dk_105 {code : ByteArray} {pc : Nat} (h : DkAt code pc [105]) : decode code pc = .ok (.lmul, 1) := dk_of ((dk_bind (dk_u1 (h 0 _ rfl))).trans rfl)
theorem dk_108 {code : ByteArray} {pc : Nat} (h : DkAt code pc [108]) : decode code pc = .ok (.idiv, 1) := dk_of ((dk_bind (dk_u1 (h 0 _ rfl))).trans rfl)
theorem dk_109 {code : ByteArray} {pc : Nat} (h : DkAt code pc [109]) : decode code pc = .ok (.ldiv, 1) := dk_of ((dk_bind (dk_u1 (h 0 _ rfl))).trans rfl)
theorem dk_112 {code : ByteArray} {pc : Nat} (h : DkAt code pc [112]) : decode code pc = .ok (.irem, 1) := dk_of ((dk_bind (dk_u1 (h 0 _ rfl))).trans rfl)
theorem dk_113 {code : ByteArray} {pc : Nat} (h : DkAt code pc [113]) : decode code pc = .ok (.lrem, 1) := dk_of ((dk_bind (dk_u1 (h 0 _ rfl))).trans rfl)
theorem dk_120 {code : ByteArray} {pc : Nat} (h : DkAt code pc [120]) : decode code pc = .ok (.ishl, 1) := dk_of ((dk_bind (dk_u1 (h 0 _ rfl))).trans rfl)
theorem dk_122 {code : ByteArray} {pc : Nat} (h : DkAt code pc [122]) : decode code pc = .ok (.ishr, 1) := dk_of ((dk_bind (dk_u1 (h 0 _ rfl))).trans rfl)
theorem dk_124 {code : ByteArray} {pc : Nat} (h : DkAt code pc [124]) : decode code pc = .ok (.iushr, 1) := dk_of ((dk_bind (dk_u1 (h 0 _ rfl))).trans rfl)
theorem dk_126 {code : ByteArray} {pc : Nat} (h : DkAt code pc [126]) : decode code pc = .ok (.iand, 1) := dk_of ((dk_bind (dk_u1 (h 0 _ rfl))).trans rfl)
theorem dk_128 {code : ByteArray} {pc : Nat} (h : DkAt code pc [128]) : decode code pc = .ok (.ior, 1) := dk_of ((dk_bind (dk_u1 (h 0 _ rfl))).trans rfl)
theorem dk_132 {code : ByteArray} {pc : Nat} (a b : UInt8) (h : DkAt code pc [132, a, b]) : decode code pc = .ok (.iinc a.toNat (Reader.signed 8 b.toNat), 3) := dk_of ((dk_bind (dk_u1 (h 0 _ rfl))).trans ((dk_bind (dk_u1 (h 1 _ rfl))).trans ((dk_bind (dk_map (dk_u1 (h 2 _ rfl)))).trans rfl)))
theorem dk_133 {code : ByteArray} {pc : Nat} (h : DkAt code pc [133]) : decode code pc = .ok (.i2l, 1) := dk_of ((dk_bind (dk_u1 (h 0 _ rfl))).trans rfl)
theorem dk_136 {code : ByteArray} {pc : Nat} (h : DkAt code pc [136]) : decode code pc = .ok (.l2i, 1) := dk_of ((dk_bind (dk_u1 (h 0 _ rfl))).trans rfl)
theorem dk_145 {code : ByteArray} {pc : Nat} (h : DkAt code pc [145]) : decode code pc = .ok (.i2b, 1) := dk_of ((dk_bind (dk_u1 (h 0 _ rfl))).trans rfl)
theorem dk_146 {code : ByteArray} {pc : Nat} (h : DkAt code pc [146]) : decode code pc = .ok (.i2c, 1) := dk_of ((dk_bind (dk_u1 (h 0 _ rfl))).trans rfl)
theorem dk_148 {code : ByteArray} {pc : Nat} (h : DkAt code pc [148]) : decode code pc = .ok (.lcmp, 1) := dk_of ((dk_bind (dk_u1 (h 0 _ rfl))).trans rfl)
theorem dk_153 {code : ByteArray} {pc : Nat} (a b : UInt8) (h : DkAt code pc [153, a, b]) : decode code pc = .ok (.ifCond .eq (Reader.signed 16 (a.toNat * 256 + b.toNat)), 3) := dk_of ((dk_bind (dk_u1 (h 0 _ rfl))).trans ((dk_bind (dk_map (dk_u2 (h 1 _ rfl) (h 2 _ rfl)))).trans rfl))
theorem dk_154 {code : ByteArray} {pc : Nat} (a b : UInt8) (h : DkAt code pc [154, a, b]) : decode code pc = .ok (.ifCond .ne (Reader.signed 16 (a.toNat * 256 + b.toNat)), 3) := dk_of ((dk_bind (dk_u1 (h 0 _ rfl))).trans ((dk_bind (dk_map (dk_u2 (h 1 _ rfl) (h 2 _ rfl)))).trans rfl))
theorem dk_155 {code : ByteArray} {pc : Nat} (a b : UInt8) (h : DkAt code pc [155, a, b]) : decode code pc = .ok (.ifCond .lt (Reader.signed 16 (a.toNat * 256 + b.toNat)), 3) := dk_of ((dk_bind (dk_u1 (h 0 _ rfl))).trans ((dk_bind (dk_map (dk_u2 (h 1 _ rfl) (h 2 _ rfl)))).trans rfl))
theorem dk_156 {code : ByteArray} {pc : Nat} (a b : UInt8) (h : DkAt code pc [156, a, b]) : decode code pc = .ok (.ifCond .ge (Reader.signed 16 (a.toNat * 256 + b.toNat)), 3) := dk_of ((dk_bind (dk_u1 (h 0 _ rfl))).trans ((dk_bind (dk_map (dk_u2 (h 1 _ rfl) (h 2 _ rfl)))).trans rfl))
theorem dk_158 {code : ByteArray} {pc : Nat} (a b : UInt8) (h : DkAt code pc [158, a, b]) : decode code pc = .ok (.ifCond .le (Reader.signed 16 (a.toNat * 256 + b.toNat)), 3) := dk_of ((dk_bind (dk_u1 (h 0 _ rfl))).trans ((dk_bind (dk_map (dk_u2 (h 1 _ rfl) (h 2 _ rfl)))).trans rfl))
theorem dk_159 {code : ByteArray} {pc : Nat} (a b : UInt8) (h : DkAt code pc [159, a, b]) : decode code pc = .ok (.if_icmp .eq (Reader.signed 16 (a.toNat * 256 + b.toNat)), 3) := dk_of ((dk_bind (dk_u1 (h 0 _ rfl))).trans ((dk_bind (dk_map (dk_u2 (h 1 _ rfl) (h 2 _ rfl)))).trans rfl))
theorem dk_160 {code : ByteArray} {pc : Nat} (a b : UInt8) (h : DkAt code pc [160, a, b]) : decode code pc = .ok (.if_icmp .ne (Reader.signed 16 (a.toNat * 256 + b.toNat)), 3) := dk_of ((dk_bind (dk_u1 (h 0 _ rfl))).trans ((dk_bind (dk_map (dk_u2 (h 1 _ rfl) (h 2 _ rfl)))).trans rfl))
theorem dk_161 {code : ByteArray} {pc : Nat} (a b : UInt8) (h : DkAt code pc [161, a, b]) : decode code pc = .ok (.if_icmp .lt (Reader.signed 16 (a.toNat * 256 + b.toNat)), 3) := dk_of ((dk_bind (dk_u1 (h 0 _ rfl))).trans ((dk_bind (dk_map (dk_u2 (h 1 _ rfl) (h 2 _ rfl)))).trans rfl))
theorem dk_162 {code : ByteArray} {pc : Nat} (a b : UInt8) (h : DkAt code pc [162, a, b]) : decode code pc = .ok (.if_icmp .ge (Reader.signed 16 (a.toNat * 256 + b.toNat)), 3) := dk_of ((dk_bind (dk_u1 (h 0 _ rfl))).trans ((dk_bind (dk_map (dk_u2 (h 1 _ rfl) (h 2 _ rfl)))).trans rfl))
theorem dk_163 {code : ByteArray} {pc : Nat} (a b : UInt8) (h : DkAt code pc [163, a, b]) : decode code pc = .ok (.if_icmp .gt (Reader.signed 16 (a.toNat * 256 + b.toNat)), 3) := dk_of ((dk_bind (dk_u1 (h 0 _ rfl))).trans ((dk_bind (dk_map (dk_u2 (h 1 _ rfl) (h 2 _ rfl)))).trans rfl))
theorem dk_164 {code : ByteArray} {pc : Nat} (a b : UInt8) (h : DkAt code pc [164, a, b]) : decode code pc = .ok (.if_icmp .le (Reader.signed 16 (a.toNat * 256 + b.toNat)), 3) := dk_of ((dk_bind (dk_u1 (h 0 _ rfl))).trans ((dk_bind (dk_map (dk_u2 (h 1 _ rfl) (h 2 _ rfl)))).trans rfl))
theorem dk_167 {code : ByteArray} {pc : Nat} (a b : UInt8) (h : DkAt code pc [167, a, b]) : decode code pc = .ok (.goto (Reader.signed 16 (a.toNat * 256 + b.toNat)), 3) := dk_of ((dk_bind (dk_u1 (h 0 _ rfl))).trans ((dk_bind (dk_map (dk_u2 (h 1 _ rfl) (h 2 _ rfl)))).trans rfl))
theorem dk_172 {code : ByteArray} {pc : Nat} (h : DkAt code pc [172]) : decode code pc = .ok (.ireturn, 1) := dk_of ((dk_bind (dk_u1 (h 0 _ rfl))).trans rfl)
theorem dk_173 {code : ByteArray} {pc : Nat} (h : DkAt code pc [173]) : decode code pc = .ok (.lreturn, 1) := dk_of ((dk_bind (dk_u1 (h 0 _ rfl))).trans rfl)
theorem dk_176 {code : ByteArray} {pc : Nat} (h : DkAt code pc [176]) : decode code pc = .ok (.areturn, 1) := dk_of ((dk_bind (dk_u1 (h 0 _ rfl))).trans rfl)
theorem dk_177 {code : ByteArray} {pc : Nat} (h : DkAt code pc [177]) : decode code pc = .ok (.return_, 1) := dk_of ((dk_bind (dk_u1 (h 0 _ rfl))).trans rfl)
theorem dk_178 {code : ByteArray} {pc : Nat} (a b : UInt8) (h : DkAt code pc [178, a, b]) : decode code pc = .ok (.getstatic (a.toNat * 256 + b.toNat), 3) := dk_of ((dk_bind (dk_u1 (h 0 _ rfl))).trans ((dk_bind (dk_u2 (h 1 _ rfl) (h 2 _ rfl))).trans rfl))
theorem dk_180 {code : ByteArray} {pc : Nat} (a b : UInt8) (h : DkAt code pc [180, a, b]) : decode code pc = .ok (.getfield (a.toNat * 256 + b.toNat), 3) := dk_of ((dk_bind (dk_u1 (h 0 _ rfl))).trans ((dk_bind (dk_u2 (h 1 _ rfl) (h 2 _ rfl))).trans rfl))
theorem dk_181 {code : ByteArray} {pc : Nat} (a b : UInt8) (h : DkAt code pc [181, a, b]) : decode code pc = .ok (.putfield (a.toNat * 256 + b.toNat), 3) := dk_of ((dk_bind (dk_u1 (h 0 _ rfl))).trans ((dk_bind (dk_u2 (h 1 _ rfl) (h 2 _ rfl))).trans rfl))
theorem dk_182 {code : ByteArray} {pc : Nat} (a b : UInt8) (h : DkAt code pc [182, a, b]) : decode code pc = .ok (.invokevirtual (a.toNat * 256 + b.toNat), 3) := dk_of ((dk_bind (dk_u1 (h 0 _ rfl))).trans ((dk_bind (dk_u2 (h 1 _ rfl) (h 2 _ rfl))).trans rfl))
theorem dk_183 {code : ByteArray} {pc : Nat} (a b : UInt8) (h : DkAt code pc [183, a, b]) : decode code pc = .ok (.invokespecial (a.toNat * 256 + b.toNat), 3) := dk_of ((dk_bind (dk_u1 (h 0 _ rfl))).trans ((dk_bind (dk_u2 (h 1 _ rfl) (h 2 _ rfl))).trans rfl))
theorem dk_184 {code : ByteArray} {pc : Nat} (a b : UInt8) (h : DkAt code pc [184, a, b]) : decode code pc = .ok (.invokestatic (a.toNat * 256 + b.toNat), 3) := dk_of ((dk_bind (dk_u1 (h 0 _ rfl))).trans ((dk_bind (dk_u2 (h 1 _ rfl) (h 2 _ rfl))).trans rfl))
theorem dk_187 {code : ByteArray} {pc : Nat} (a b : UInt8) (h : DkAt code pc [187, a, b]) : decode code pc = .ok (.new (a.toNat * 256 + b.toNat), 3) := dk_of ((dk_bind (dk_u1 (h 0 _ rfl))).trans ((dk_bind (dk_u2 (h 1 _ rfl) (h 2 _ rfl))).trans rfl))
theorem dk_188_4 {code : ByteArray} {pc : Nat} (h : DkAt code pc [188, 4]) : decode code pc = .ok (.newarray .boolean, 2) := dk_of ((dk_bind (dk_u1 (h 0 _ rfl))).trans ((dk_bind (dk_u1 (h 1 _ rfl))).trans rfl))
theorem dk_188_8 {code : ByteArray} {pc : Nat} (h : DkAt code pc [188, 8]) : decode code pc = .ok (.newarray .byte, 2) := dk_of ((dk_bind (dk_u1 (h 0 _ rfl))).trans ((dk_bind (dk_u1 (h 1 _ rfl))).trans rfl))
theorem dk_188_10 {code : ByteArray} {pc : Nat} (h : DkAt code pc [188, 10]) : decode code pc = .ok (.newarray .int, 2) := dk_of ((dk_bind (dk_u1 (h 0 _ rfl))).trans ((dk_bind (dk_u1 (h 1 _ rfl))).trans rfl))
theorem dk_189 {code : ByteArray} {pc : Nat} (a b : UInt8) (h : DkAt code pc [189, a, b]) : decode code pc = .ok (.anewarray (a.toNat * 256 + b.toNat), 3) := dk_of ((dk_bind (dk_u1 (h 0 _ rfl))).trans ((dk_bind (dk_u2 (h 1 _ rfl) (h 2 _ rfl))).trans rfl))
theorem dk_190 {code : ByteArray} {pc : Nat} (h : DkAt code pc [190]) : decode code pc = .ok (.arraylength, 1) := dk_of ((dk_bind (dk_u1 (h 0 _ rfl))).trans rfl)
theorem dk_191 {code : ByteArray} {pc : Nat} (h : DkAt code pc [191]) : decode code pc = .ok (.athrow, 1) := dk_of ((dk_bind (dk_u1 (h 0 _ rfl))).trans rfl)
/-! java/lang/Object -/
set_option maxRecDepth 100000
def RJ10 : String := "java/lang/Object"
abbrev cJ10_init : ByteArray := object_method_1_code
def yJ10_init : MethodName := ⟨RJ10, "<init>", "()V"⟩
theorem dJ10_init_0 : decode cJ10_init 0 = .ok (.return_, 1) := by decide +kernel
theorem q68 : (Jvm.Cond.instanceMethod ({ cls := "java/lang/Object", name := "<init>", desc := "()V" } : Jvm.MethodName)) ∈ lw_all := lw_g (lw_at lw_m1 30 rfl) rfl
theorem q69 : (Jvm.Cond.code ({ cls := "java/lang/Object", name := "<init>", desc := "()V" } : Jvm.MethodName) object_method_1_code (1 : Nat) (Option.none : Option Jvm.ClassFile.FieldType)) ∈ lw_all := lw_g (lw_at lw_m1 31 rfl) rfl
/-! java/lang/Math -/
set_option maxRecDepth 100000
def RJ0 : String := "java/lang/Math"
abbrev cJ0_max : ByteArray := prog_16_method_65_code
def yJ0_max : MethodName := ⟨RJ0, "max", "(II)I"⟩
def dkwJ0_max_0 : List UInt8 := [26, 27, 161, 0, 7, 26, 167, 0, 4, 27, 172]
abbrev dktJ0_max_0 : List UInt8 := dkwJ0_max_0 ++ []
theorem dksJ0_max_0 : cJ0_max.data.toList.drop 0 = dktJ0_max_0 := by decide +kernel
theorem dJ0_max_0 : decode cJ0_max 0 = .ok (.iload_n 0, 1) := dk_26 (dk_at dksJ0_max_0 0 rfl rfl)
theorem dJ0_max_1 : decode cJ0_max 1 = .ok (.iload_n 1, 1) := dk_27 (dk_at dksJ0_max_0 1 rfl rfl)
theorem dJ0_max_2 : decode cJ0_max 2 = .ok (.if_icmp .lt 7, 3) := dk_161 0 7 (dk_at dksJ0_max_0 2 rfl rfl)
theorem dJ0_max_5 : decode cJ0_max 5 = .ok (.iload_n 0, 1) := dk_26 (dk_at dksJ0_max_0 5 rfl rfl)
theorem dJ0_max_6 : decode cJ0_max 6 = .ok (.goto 4, 3) := dk_167 0 4 (dk_at dksJ0_max_0 6 rfl rfl)
theorem dJ0_max_9 : decode cJ0_max 9 = .ok (.iload_n 1, 1) := dk_27 (dk_at dksJ0_max_0 9 rfl rfl)
theorem dJ0_max_10 : decode cJ0_max 10 = .ok (.ireturn, 1) := dk_172 (dk_at dksJ0_max_0 10 rfl rfl)
abbrev cJ0_min : ByteArray := prog_16_method_69_code
def yJ0_min : MethodName := ⟨RJ0, "min", "(II)I"⟩
def dkwJ0_min_0 : List UInt8 := [26, 27, 163, 0, 7, 26, 167, 0, 4, 27, 172]
abbrev dktJ0_min_0 : List UInt8 := dkwJ0_min_0 ++ []
theorem dksJ0_min_0 : cJ0_min.data.toList.drop 0 = dktJ0_min_0 := by decide +kernel
theorem dJ0_min_0 : decode cJ0_min 0 = .ok (.iload_n 0, 1) := dk_26 (dk_at dksJ0_min_0 0 rfl rfl)
theorem dJ0_min_1 : decode cJ0_min 1 = .ok (.iload_n 1, 1) := dk_27 (dk_at dksJ0_min_0 1 rfl rfl)
theorem dJ0_min_2 : decode cJ0_min 2 = .ok (.if_icmp .gt 7, 3) := dk_163 0 7 (dk_at dksJ0_min_0 2 rfl rfl)
theorem dJ0_min_5 : decode cJ0_min 5 = .ok (.iload_n 0, 1) := dk_26 (dk_at dksJ0_min_0 5 rfl rfl)
theorem dJ0_min_6 : decode cJ0_min 6 = .ok (.goto 4, 3) := dk_167 0 4 (dk_at dksJ0_min_0 6 rfl rfl)
theorem dJ0_min_9 : decode cJ0_min 9 = .ok (.iload_n 1, 1) := dk_27 (dk_at dksJ0_min_0 9 rfl rfl)
theorem dJ0_min_10 : decode cJ0_min 10 = .ok (.ireturn, 1) := dk_172 (dk_at dksJ0_min_0 10 rfl rfl)
theorem q48 : (Jvm.Cond.initialized "java/lang/Math") ∈ lw_all := lw_g (lw_at lw_m1 10 rfl) rfl
theorem q257 : (Jvm.Cond.static ({ cls := "java/lang/Math", name := "max", desc := "(II)I" } : Jvm.MethodName)) ∈ lw_all := lw_g (lw_at lw_m1 219 rfl) rfl
theorem q258 : (Jvm.Cond.code ({ cls := "java/lang/Math", name := "max", desc := "(II)I" } : Jvm.MethodName) prog_16_method_65_code (2 : Nat) (Option.some Jvm.ClassFile.FieldType.int)) ∈ lw_all := lw_g (lw_at lw_m1 220 rfl) rfl
theorem q392 : (Jvm.Cond.static ({ cls := "java/lang/Math", name := "min", desc := "(II)I" } : Jvm.MethodName)) ∈ lw_all := lw_g (lw_at lw_m2 114 rfl) rfl
theorem q393 : (Jvm.Cond.code ({ cls := "java/lang/Math", name := "min", desc := "(II)I" } : Jvm.MethodName) prog_16_method_69_code (2 : Nat) (Option.some Jvm.ClassFile.FieldType.int)) ∈ lw_all := lw_g (lw_at lw_m2 115 rfl) rfl
/-! java/util/Arrays -/
set_option maxRecDepth 100000
def RJ1 : String := "java/util/Arrays"
abbrev cJ1_fill : ByteArray := prog_23_method_103_code
def yJ1_fill : MethodName := ⟨RJ1, "fill", "([II)V"⟩
def dkwJ1_fill_0 : List UInt8 := [3, 61, 42, 190, 62, 28, 29, 162, 0, 13, 42, 28, 27, 79, 132, 2, 1, 167, 255, 244, 177]
abbrev dktJ1_fill_0 : List UInt8 := dkwJ1_fill_0 ++ []
theorem dksJ1_fill_0 : cJ1_fill.data.toList.drop 0 = dktJ1_fill_0 := by decide +kernel
theorem dJ1_fill_0 : decode cJ1_fill 0 = .ok (.iconst 0, 1) := dk_3 (dk_at dksJ1_fill_0 0 rfl rfl)
theorem dJ1_fill_1 : decode cJ1_fill 1 = .ok (.istore_n 2, 1) := dk_61 (dk_at dksJ1_fill_0 1 rfl rfl)
theorem dJ1_fill_2 : decode cJ1_fill 2 = .ok (.aload_n 0, 1) := dk_42 (dk_at dksJ1_fill_0 2 rfl rfl)
theorem dJ1_fill_3 : decode cJ1_fill 3 = .ok (.arraylength, 1) := dk_190 (dk_at dksJ1_fill_0 3 rfl rfl)
theorem dJ1_fill_4 : decode cJ1_fill 4 = .ok (.istore_n 3, 1) := dk_62 (dk_at dksJ1_fill_0 4 rfl rfl)
theorem dJ1_fill_5 : decode cJ1_fill 5 = .ok (.iload_n 2, 1) := dk_28 (dk_at dksJ1_fill_0 5 rfl rfl)
theorem dJ1_fill_6 : decode cJ1_fill 6 = .ok (.iload_n 3, 1) := dk_29 (dk_at dksJ1_fill_0 6 rfl rfl)
theorem dJ1_fill_7 : decode cJ1_fill 7 = .ok (.if_icmp .ge 13, 3) := dk_162 0 13 (dk_at dksJ1_fill_0 7 rfl rfl)
theorem dJ1_fill_10 : decode cJ1_fill 10 = .ok (.aload_n 0, 1) := dk_42 (dk_at dksJ1_fill_0 10 rfl rfl)
theorem dJ1_fill_11 : decode cJ1_fill 11 = .ok (.iload_n 2, 1) := dk_28 (dk_at dksJ1_fill_0 11 rfl rfl)
theorem dJ1_fill_12 : decode cJ1_fill 12 = .ok (.iload_n 1, 1) := dk_27 (dk_at dksJ1_fill_0 12 rfl rfl)
theorem dJ1_fill_13 : decode cJ1_fill 13 = .ok (.iastore, 1) := dk_79 (dk_at dksJ1_fill_0 13 rfl rfl)
theorem dJ1_fill_14 : decode cJ1_fill 14 = .ok (.iinc 2 1, 3) := dk_132 2 1 (dk_at dksJ1_fill_0 14 rfl rfl)
theorem dJ1_fill_17 : decode cJ1_fill 17 = .ok (.goto (-12), 3) := dk_167 255 244 (dk_at dksJ1_fill_0 17 rfl rfl)
theorem dJ1_fill_20 : decode cJ1_fill 20 = .ok (.return_, 1) := dk_177 (dk_at dksJ1_fill_0 20 rfl rfl)
abbrev cJ1_fill_2 : ByteArray := prog_23_method_111_code
def yJ1_fill_2 : MethodName := ⟨RJ1, "fill", "([ZZ)V"⟩
def dkwJ1_fill_2_0 : List UInt8 := [3, 61, 42, 190, 62, 28, 29, 162, 0, 13, 42, 28, 27, 84, 132, 2, 1, 167, 255, 244, 177]
abbrev dktJ1_fill_2_0 : List UInt8 := dkwJ1_fill_2_0 ++ []
theorem dksJ1_fill_2_0 : cJ1_fill_2.data.toList.drop 0 = dktJ1_fill_2_0 := by decide +kernel
theorem dJ1_fill_2_0 : decode cJ1_fill_2 0 = .ok (.iconst 0, 1) := dk_3 (dk_at dksJ1_fill_2_0 0 rfl rfl)
theorem dJ1_fill_2_1 : decode cJ1_fill_2 1 = .ok (.istore_n 2, 1) := dk_61 (dk_at dksJ1_fill_2_0 1 rfl rfl)
theorem dJ1_fill_2_2 : decode cJ1_fill_2 2 = .ok (.aload_n 0, 1) := dk_42 (dk_at dksJ1_fill_2_0 2 rfl rfl)
theorem dJ1_fill_2_3 : decode cJ1_fill_2 3 = .ok (.arraylength, 1) := dk_190 (dk_at dksJ1_fill_2_0 3 rfl rfl)
theorem dJ1_fill_2_4 : decode cJ1_fill_2 4 = .ok (.istore_n 3, 1) := dk_62 (dk_at dksJ1_fill_2_0 4 rfl rfl)
theorem dJ1_fill_2_5 : decode cJ1_fill_2 5 = .ok (.iload_n 2, 1) := dk_28 (dk_at dksJ1_fill_2_0 5 rfl rfl)
theorem dJ1_fill_2_6 : decode cJ1_fill_2 6 = .ok (.iload_n 3, 1) := dk_29 (dk_at dksJ1_fill_2_0 6 rfl rfl)
theorem dJ1_fill_2_7 : decode cJ1_fill_2 7 = .ok (.if_icmp .ge 13, 3) := dk_162 0 13 (dk_at dksJ1_fill_2_0 7 rfl rfl)
theorem dJ1_fill_2_10 : decode cJ1_fill_2 10 = .ok (.aload_n 0, 1) := dk_42 (dk_at dksJ1_fill_2_0 10 rfl rfl)
theorem dJ1_fill_2_11 : decode cJ1_fill_2 11 = .ok (.iload_n 2, 1) := dk_28 (dk_at dksJ1_fill_2_0 11 rfl rfl)
theorem dJ1_fill_2_12 : decode cJ1_fill_2 12 = .ok (.iload_n 1, 1) := dk_27 (dk_at dksJ1_fill_2_0 12 rfl rfl)
theorem dJ1_fill_2_13 : decode cJ1_fill_2 13 = .ok (.bastore, 1) := dk_84 (dk_at dksJ1_fill_2_0 13 rfl rfl)
theorem dJ1_fill_2_14 : decode cJ1_fill_2 14 = .ok (.iinc 2 1, 3) := dk_132 2 1 (dk_at dksJ1_fill_2_0 14 rfl rfl)
theorem dJ1_fill_2_17 : decode cJ1_fill_2 17 = .ok (.goto (-12), 3) := dk_167 255 244 (dk_at dksJ1_fill_2_0 17 rfl rfl)
theorem dJ1_fill_2_20 : decode cJ1_fill_2 20 = .ok (.return_, 1) := dk_177 (dk_at dksJ1_fill_2_0 20 rfl rfl)
theorem q49 : (Jvm.Cond.initialized "java/util/Arrays") ∈ lw_all := lw_g (lw_at lw_m1 11 rfl) rfl
theorem q260 : (Jvm.Cond.static ({ cls := "java/util/Arrays", name := "fill", desc := "([II)V" } : Jvm.MethodName)) ∈ lw_all := lw_g (lw_at lw_m1 222 rfl) rfl
theorem q261 : (Jvm.Cond.code ({ cls := "java/util/Arrays", name := "fill", desc := "([II)V" } : Jvm.MethodName) prog_23_method_103_code (4 : Nat) (Option.none : Option Jvm.ClassFile.FieldType)) ∈ lw_all := lw_g (lw_at lw_m1 223 rfl) rfl
theorem q572 : (Jvm.Cond.static ({ cls := "java/util/Arrays", name := "fill", desc := "([ZZ)V" } : Jvm.MethodName)) ∈ lw_all := lw_g (lw_at lw_m3 54 rfl) rfl
theorem q573 : (Jvm.Cond.code ({ cls := "java/util/Arrays", name := "fill", desc := "([ZZ)V" } : Jvm.MethodName) prog_23_method_111_code (4 : Nat) (Option.none : Option Jvm.ClassFile.FieldType)) ∈ lw_all := lw_g (lw_at lw_m3 55 rfl) rfl
/-! java/lang/String -/
set_option maxRecDepth 100000
def RJ2 : String := "java/lang/String"
abbrev cJ2_indexOf : ByteArray := prog_18_method_79_code
def yJ2_indexOf : MethodName := ⟨RJ2, "indexOf", "(I)I"⟩
def dkwJ2_indexOf_0 : List UInt8 := [42, 27, 3, 182, 2, 121, 172]
abbrev dktJ2_indexOf_0 : List UInt8 := dkwJ2_indexOf_0 ++ []
theorem dksJ2_indexOf_0 : cJ2_indexOf.data.toList.drop 0 = dktJ2_indexOf_0 := by decide +kernel
theorem dJ2_indexOf_0 : decode cJ2_indexOf 0 = .ok (.aload_n 0, 1) := dk_42 (dk_at dksJ2_indexOf_0 0 rfl rfl)
theorem dJ2_indexOf_1 : decode cJ2_indexOf 1 = .ok (.iload_n 1, 1) := dk_27 (dk_at dksJ2_indexOf_0 1 rfl rfl)
theorem dJ2_indexOf_2 : decode cJ2_indexOf 2 = .ok (.iconst 0, 1) := dk_3 (dk_at dksJ2_indexOf_0 2 rfl rfl)
theorem dJ2_indexOf_3 : decode cJ2_indexOf 3 = .ok (.invokevirtual 633, 3) := dk_182 2 121 (dk_at dksJ2_indexOf_0 3 rfl rfl)
theorem dJ2_indexOf_6 : decode cJ2_indexOf 6 = .ok (.ireturn, 1) := dk_172 (dk_at dksJ2_indexOf_0 6 rfl rfl)
abbrev cJ2_indexOf_2 : ByteArray := prog_18_method_80_code
def yJ2_indexOf_2 : MethodName := ⟨RJ2, "indexOf", "(II)I"⟩
def dkwJ2_indexOf_2_1 : List UInt8 := [180, 0, 9, 27, 28, 42, 182, 1, 249, 184, 2, 128, 172]
abbrev dktJ2_indexOf_2_1 : List UInt8 := dkwJ2_indexOf_2_1 ++ []
def dkwJ2_indexOf_2_0 : List UInt8 := [42, 182, 1, 236, 153, 0, 19, 42, 180, 0, 9, 27, 28, 42, 182, 1, 249, 184, 2, 125, 167, 0, 16, 42]
abbrev dktJ2_indexOf_2_0 : List UInt8 := dkwJ2_indexOf_2_0 ++ dktJ2_indexOf_2_1
theorem dksJ2_indexOf_2_0 : cJ2_indexOf_2.data.toList.drop 0 = dktJ2_indexOf_2_0 := by decide +kernel
theorem dksJ2_indexOf_2_1 : cJ2_indexOf_2.data.toList.drop 24 = dktJ2_indexOf_2_1 := dk_seg dksJ2_indexOf_2_0 24 rfl rfl
theorem dJ2_indexOf_2_0 : decode cJ2_indexOf_2 0 = .ok (.aload_n 0, 1) := dk_42 (dk_at dksJ2_indexOf_2_0 0 rfl rfl)
theorem dJ2_indexOf_2_1 : decode cJ2_indexOf_2 1 = .ok (.invokevirtual 492, 3) := dk_182 1 236 (dk_at dksJ2_indexOf_2_0 1 rfl rfl)
theorem dJ2_indexOf_2_4 : decode cJ2_indexOf_2 4 = .ok (.ifCond .eq 19, 3) := dk_153 0 19 (dk_at dksJ2_indexOf_2_0 4 rfl rfl)
theorem dJ2_indexOf_2_7 : decode cJ2_indexOf_2 7 = .ok (.aload_n 0, 1) := dk_42 (dk_at dksJ2_indexOf_2_0 7 rfl rfl)
theorem dJ2_indexOf_2_8 : decode cJ2_indexOf_2 8 = .ok (.getfield 9, 3) := dk_180 0 9 (dk_at dksJ2_indexOf_2_0 8 rfl rfl)
theorem dJ2_indexOf_2_11 : decode cJ2_indexOf_2 11 = .ok (.iload_n 1, 1) := dk_27 (dk_at dksJ2_indexOf_2_0 11 rfl rfl)
theorem dJ2_indexOf_2_12 : decode cJ2_indexOf_2 12 = .ok (.iload_n 2, 1) := dk_28 (dk_at dksJ2_indexOf_2_0 12 rfl rfl)
theorem dJ2_indexOf_2_13 : decode cJ2_indexOf_2 13 = .ok (.aload_n 0, 1) := dk_42 (dk_at dksJ2_indexOf_2_0 13 rfl rfl)
theorem dJ2_indexOf_2_14 : decode cJ2_indexOf_2 14 = .ok (.invokevirtual 505, 3) := dk_182 1 249 (dk_at dksJ2_indexOf_2_0 14 rfl rfl)
theorem dJ2_indexOf_2_17 : decode cJ2_indexOf_2 17 = .ok (.invokestatic 637, 3) := dk_184 2 125 (dk_at dksJ2_indexOf_2_0 17 rfl rfl)
theorem dJ2_indexOf_2_20 : decode cJ2_indexOf_2 20 = .ok (.goto 16, 3) := dk_167 0 16 (dk_at dksJ2_indexOf_2_0 20 rfl rfl)
theorem dJ2_indexOf_2_23 : decode cJ2_indexOf_2 23 = .ok (.aload_n 0, 1) := dk_42 (dk_at dksJ2_indexOf_2_0 23 rfl rfl)
theorem dJ2_indexOf_2_24 : decode cJ2_indexOf_2 24 = .ok (.getfield 9, 3) := dk_180 0 9 (dk_at dksJ2_indexOf_2_1 0 rfl rfl)
theorem dJ2_indexOf_2_27 : decode cJ2_indexOf_2 27 = .ok (.iload_n 1, 1) := dk_27 (dk_at dksJ2_indexOf_2_1 3 rfl rfl)
theorem dJ2_indexOf_2_28 : decode cJ2_indexOf_2 28 = .ok (.iload_n 2, 1) := dk_28 (dk_at dksJ2_indexOf_2_1 4 rfl rfl)
theorem dJ2_indexOf_2_29 : decode cJ2_indexOf_2 29 = .ok (.aload_n 0, 1) := dk_42 (dk_at dksJ2_indexOf_2_1 5 rfl rfl)
theorem dJ2_indexOf_2_30 : decode cJ2_indexOf_2 30 = .ok (.invokevirtual 505, 3) := dk_182 1 249 (dk_at dksJ2_indexOf_2_1 6 rfl rfl)
theorem dJ2_indexOf_2_33 : decode cJ2_indexOf_2 33 = .ok (.invokestatic 640, 3) := dk_184 2 128 (dk_at dksJ2_indexOf_2_1 9 rfl rfl)
theorem dJ2_indexOf_2_36 : decode cJ2_indexOf_2 36 = .ok (.ireturn, 1) := dk_172 (dk_at dksJ2_indexOf_2_1 12 rfl rfl)
abbrev cJ2_isLatin1 : ByteArray := prog_18_method_154_code
def yJ2_isLatin1 : MethodName := ⟨RJ2, "isLatin1", "()Z"⟩
def dkwJ2_isLatin1_0 : List UInt8 := [178, 0, 38, 153, 0, 14, 42, 180, 0, 15, 154, 0, 7, 4, 167, 0, 4, 3, 172]
abbrev dktJ2_isLatin1_0 : List UInt8 := dkwJ2_isLatin1_0 ++ []
theorem dksJ2_isLatin1_0 : cJ2_isLatin1.data.toList.drop 0 = dktJ2_isLatin1_0 := by decide +kernel
theorem dJ2_isLatin1_0 : decode cJ2_isLatin1 0 = .ok (.getstatic 38, 3) := dk_178 0 38 (dk_at dksJ2_isLatin1_0 0 rfl rfl)
theorem dJ2_isLatin1_3 : decode cJ2_isLatin1 3 = .ok (.ifCond .eq 14, 3) := dk_153 0 14 (dk_at dksJ2_isLatin1_0 3 rfl rfl)
theorem dJ2_isLatin1_6 : decode cJ2_isLatin1 6 = .ok (.aload_n 0, 1) := dk_42 (dk_at dksJ2_isLatin1_0 6 rfl rfl)
theorem dJ2_isLatin1_7 : decode cJ2_isLatin1 7 = .ok (.getfield 15, 3) := dk_180 0 15 (dk_at dksJ2_isLatin1_0 7 rfl rfl)
theorem dJ2_isLatin1_10 : decode cJ2_isLatin1 10 = .ok (.ifCond .ne 7, 3) := dk_154 0 7 (dk_at dksJ2_isLatin1_0 10 rfl rfl)
theorem dJ2_isLatin1_13 : decode cJ2_isLatin1 13 = .ok (.iconst 1, 1) := dk_4 (dk_at dksJ2_isLatin1_0 13 rfl rfl)
theorem dJ2_isLatin1_14 : decode cJ2_isLatin1 14 = .ok (.goto 4, 3) := dk_167 0 4 (dk_at dksJ2_isLatin1_0 14 rfl rfl)
theorem dJ2_isLatin1_17 : decode cJ2_isLatin1 17 = .ok (.iconst 0, 1) := dk_3 (dk_at dksJ2_isLatin1_0 17 rfl rfl)
theorem dJ2_isLatin1_18 : decode cJ2_isLatin1 18 = .ok (.ireturn, 1) := dk_172 (dk_at dksJ2_isLatin1_0 18 rfl rfl)
abbrev cJ2_length : ByteArray := prog_18_method_54_code
def yJ2_length : MethodName := ⟨RJ2, "length", "()I"⟩
def dkwJ2_length_0 : List UInt8 := [42, 180, 0, 9, 190, 42, 182, 1, 79, 122, 172]
abbrev dktJ2_length_0 : List UInt8 := dkwJ2_length_0 ++ []
theorem dksJ2_length_0 : cJ2_length.data.toList.drop 0 = dktJ2_length_0 := by decide +kernel
theorem dJ2_length_0 : decode cJ2_length 0 = .ok (.aload_n 0, 1) := dk_42 (dk_at dksJ2_length_0 0 rfl rfl)
theorem dJ2_length_1 : decode cJ2_length 1 = .ok (.getfield 9, 3) := dk_180 0 9 (dk_at dksJ2_length_0 1 rfl rfl)
theorem dJ2_length_4 : decode cJ2_length 4 = .ok (.arraylength, 1) := dk_190 (dk_at dksJ2_length_0 4 rfl rfl)
theorem dJ2_length_5 : decode cJ2_length 5 = .ok (.aload_n 0, 1) := dk_42 (dk_at dksJ2_length_0 5 rfl rfl)
theorem dJ2_length_6 : decode cJ2_length 6 = .ok (.invokevirtual 335, 3) := dk_182 1 79 (dk_at dksJ2_length_0 6 rfl rfl)
theorem dJ2_length_9 : decode cJ2_length 9 = .ok (.ishr, 1) := dk_122 (dk_at dksJ2_length_0 9 rfl rfl)
theorem dJ2_length_10 : decode cJ2_length 10 = .ok (.ireturn, 1) := dk_172 (dk_at dksJ2_length_0 10 rfl rfl)
abbrev cJ2_coder : ByteArray := prog_18_method_152_code
def yJ2_coder : MethodName := ⟨RJ2, "coder", "()B"⟩
def dkwJ2_coder_0 : List UInt8 := [178, 0, 38, 153, 0, 10, 42, 180, 0, 15, 167, 0, 4, 4, 172]
abbrev dktJ2_coder_0 : List UInt8 := dkwJ2_coder_0 ++ []
theorem dksJ2_coder_0 : cJ2_coder.data.toList.drop 0 = dktJ2_coder_0 := by decide +kernel
theorem dJ2_coder_0 : decode cJ2_coder 0 = .ok (.getstatic 38, 3) := dk_178 0 38 (dk_at dksJ2_coder_0 0 rfl rfl)
theorem dJ2_coder_3 : decode cJ2_coder 3 = .ok (.ifCond .eq 10, 3) := dk_153 0 10 (dk_at dksJ2_coder_0 3 rfl rfl)
theorem dJ2_coder_6 : decode cJ2_coder 6 = .ok (.aload_n 0, 1) := dk_42 (dk_at dksJ2_coder_0 6 rfl rfl)
theorem dJ2_coder_7 : decode cJ2_coder 7 = .ok (.getfield 15, 3) := dk_180 0 15 (dk_at dksJ2_coder_0 7 rfl rfl)
theorem dJ2_coder_10 : decode cJ2_coder 10 = .ok (.goto 4, 3) := dk_167 0 4 (dk_at dksJ2_coder_0 10 rfl rfl)
theorem dJ2_coder_13 : decode cJ2_coder 13 = .ok (.iconst 1, 1) := dk_4 (dk_at dksJ2_coder_0 13 rfl rfl)
theorem dJ2_coder_14 : decode cJ2_coder 14 = .ok (.ireturn, 1) := dk_172 (dk_at dksJ2_coder_0 14 rfl rfl)
abbrev cJ2_checkBoundsBeginEnd : ByteArray := prog_18_method_158_code
def yJ2_checkBoundsBeginEnd : MethodName := ⟨RJ2, "checkBoundsBeginEnd", "(III)V"⟩
def dkwJ2_checkBoundsBeginEnd_0 : List UInt8 := [26, 27, 28, 178, 4, 29, 184, 4, 38, 87, 177]
abbrev dktJ2_checkBoundsBeginEnd_0 : List UInt8 := dkwJ2_checkBoundsBeginEnd_0 ++ []
theorem dksJ2_checkBoundsBeginEnd_0 : cJ2_checkBoundsBeginEnd.data.toList.drop 0 = dktJ2_checkBoundsBeginEnd_0 := by decide +kernel
theorem dJ2_checkBoundsBeginEnd_0 : decode cJ2_checkBoundsBeginEnd 0 = .ok (.iload_n 0, 1) := dk_26 (dk_at dksJ2_checkBoundsBeginEnd_0 0 rfl rfl)
theorem dJ2_checkBoundsBeginEnd_1 : decode cJ2_checkBoundsBeginEnd 1 = .ok (.iload_n 1, 1) := dk_27 (dk_at dksJ2_checkBoundsBeginEnd_0 1 rfl rfl)
theorem dJ2_checkBoundsBeginEnd_2 : decode cJ2_checkBoundsBeginEnd 2 = .ok (.iload_n 2, 1) := dk_28 (dk_at dksJ2_checkBoundsBeginEnd_0 2 rfl rfl)
theorem dJ2_checkBoundsBeginEnd_3 : decode cJ2_checkBoundsBeginEnd 3 = .ok (.getstatic 1053, 3) := dk_178 4 29 (dk_at dksJ2_checkBoundsBeginEnd_0 3 rfl rfl)
theorem dJ2_checkBoundsBeginEnd_6 : decode cJ2_checkBoundsBeginEnd 6 = .ok (.invokestatic 1062, 3) := dk_184 4 38 (dk_at dksJ2_checkBoundsBeginEnd_0 6 rfl rfl)
theorem dJ2_checkBoundsBeginEnd_9 : decode cJ2_checkBoundsBeginEnd 9 = .ok (.pop, 1) := dk_87 (dk_at dksJ2_checkBoundsBeginEnd_0 9 rfl rfl)
theorem dJ2_checkBoundsBeginEnd_10 : decode cJ2_checkBoundsBeginEnd 10 = .ok (.return_, 1) := dk_177 (dk_at dksJ2_checkBoundsBeginEnd_0 10 rfl rfl)
theorem q52 : (Jvm.Cond.initialized "java/lang/String") ∈ lw_all := lw_g (lw_at lw_m1 14 rfl) rfl
theorem q396 : (Jvm.Cond.instanceMethod ({ cls := "java/lang/String", name := "indexOf", desc := "(I)I" } : Jvm.MethodName)) ∈ lw_all := lw_g (lw_at lw_m2 118 rfl) rfl
theorem q397 : (Jvm.Cond.selects "java/lang/String" ({ cls := "java/lang/String", name := "indexOf", desc := "(I)I" } : Jvm.MethodName) ({ cls := "java/lang/String", name := "indexOf", desc := "(I)I" } : Jvm.MethodName)) ∈ lw_all := lw_g (lw_at lw_m2 119 rfl) rfl
theorem q398 : (Jvm.Cond.code ({ cls := "java/lang/String", name := "indexOf", desc := "(I)I" } : Jvm.MethodName) prog_18_method_79_code (2 : Nat) (Option.some Jvm.ClassFile.FieldType.int)) ∈ lw_all := lw_g (lw_at lw_m2 120 rfl) rfl
theorem q399 : (Jvm.Cond.methodLink "java/lang/String" (633 : Nat) ({ cls := "java/lang/String", name := "indexOf", desc := "(II)I" } : Jvm.MethodName)) ∈ lw_all := lw_g (lw_at lw_m2 121 rfl) rfl
theorem q400 : (Jvm.Cond.instanceMethod ({ cls := "java/lang/String", name := "indexOf", desc := "(II)I" } : Jvm.MethodName)) ∈ lw_all := lw_g (lw_at lw_m2 122 rfl) rfl
theorem q401 : (Jvm.Cond.selects "java/lang/String" ({ cls := "java/lang/String", name := "indexOf", desc := "(II)I" } : Jvm.MethodName) ({ cls := "java/lang/String", name := "indexOf", desc := "(II)I" } : Jvm.MethodName)) ∈ lw_all := lw_g (lw_at lw_m2 123 rfl) rfl
theorem q402 : (Jvm.Cond.code ({ cls := "java/lang/String", name := "indexOf", desc := "(II)I" } : Jvm.MethodName) prog_18_method_80_code (3 : Nat) (Option.some Jvm.ClassFile.FieldType.int)) ∈ lw_all := lw_g (lw_at lw_m2 124 rfl) rfl
theorem q403 : (Jvm.Cond.methodLink "java/lang/String" (492 : Nat) ({ cls := "java/lang/String", name := "isLatin1", desc := "()Z" } : Jvm.MethodName)) ∈ lw_all := lw_g (lw_at lw_m2 125 rfl) rfl
theorem q404 : (Jvm.Cond.instanceMethod ({ cls := "java/lang/String", name := "isLatin1", desc := "()Z" } : Jvm.MethodName)) ∈ lw_all := lw_g (lw_at lw_m2 126 rfl) rfl
theorem q405 : (Jvm.Cond.selects "java/lang/String" ({ cls := "java/lang/String", name := "isLatin1", desc := "()Z" } : Jvm.MethodName) ({ cls := "java/lang/String", name := "isLatin1", desc := "()Z" } : Jvm.MethodName)) ∈ lw_all := lw_g (lw_at lw_m2 127 rfl) rfl
theorem q406 : (Jvm.Cond.code ({ cls := "java/lang/String", name := "isLatin1", desc := "()Z" } : Jvm.MethodName) prog_18_method_154_code (1 : Nat) (Option.some Jvm.ClassFile.FieldType.boolean)) ∈ lw_all := lw_g (lw_at lw_m2 128 rfl) rfl
theorem q407 : (Jvm.Cond.fieldLink "java/lang/String" (38 : Nat) "java/lang/String" "COMPACT_STRINGS" "Z") ∈ lw_all := lw_g (lw_at lw_m2 129 rfl) rfl
theorem q408 : (Jvm.Cond.laysStatic "java/lang/String" "COMPACT_STRINGS" "Z") ∈ lw_tbl := lw_at lw_m2 130 rfl
theorem q409 : (Jvm.Cond.methodLink "java/lang/String" (505 : Nat) ({ cls := "java/lang/String", name := "length", desc := "()I" } : Jvm.MethodName)) ∈ lw_all := lw_g (lw_at lw_m2 131 rfl) rfl
theorem q410 : (Jvm.Cond.instanceMethod ({ cls := "java/lang/String", name := "length", desc := "()I" } : Jvm.MethodName)) ∈ lw_all := lw_g (lw_at lw_m2 132 rfl) rfl
theorem q411 : (Jvm.Cond.selects "java/lang/String" ({ cls := "java/lang/String", name := "length", desc := "()I" } : Jvm.MethodName) ({ cls := "java/lang/String", name := "length", desc := "()I" } : Jvm.MethodName)) ∈ lw_all := lw_g (lw_at lw_m2 133 rfl) rfl
theorem q412 : (Jvm.Cond.code ({ cls := "java/lang/String", name := "length", desc := "()I" } : Jvm.MethodName) prog_18_method_54_code (1 : Nat) (Option.some Jvm.ClassFile.FieldType.int)) ∈ lw_all := lw_g (lw_at lw_m2 134 rfl) rfl
theorem q413 : (Jvm.Cond.methodLink "java/lang/String" (335 : Nat) ({ cls := "java/lang/String", name := "coder", desc := "()B" } : Jvm.MethodName)) ∈ lw_all := lw_g (lw_at lw_m2 135 rfl) rfl
theorem q414 : (Jvm.Cond.instanceMethod ({ cls := "java/lang/String", name := "coder", desc := "()B" } : Jvm.MethodName)) ∈ lw_all := lw_g (lw_at lw_m2 136 rfl) rfl
theorem q415 : (Jvm.Cond.selects "java/lang/String" ({ cls := "java/lang/String", name := "coder", desc := "()B" } : Jvm.MethodName) ({ cls := "java/lang/String", name := "coder", desc := "()B" } : Jvm.MethodName)) ∈ lw_all := lw_g (lw_at lw_m2 137 rfl) rfl
theorem q416 : (Jvm.Cond.code ({ cls := "java/lang/String", name := "coder", desc := "()B" } : Jvm.MethodName) prog_18_method_152_code (1 : Nat) (Option.some Jvm.ClassFile.FieldType.byte)) ∈ lw_all := lw_g (lw_at lw_m2 138 rfl) rfl
theorem q417 : (Jvm.Cond.methodLink "java/lang/String" (637 : Nat) ({ cls := "java/lang/StringLatin1", name := "indexOf", desc := "([BIII)I" } : Jvm.MethodName)) ∈ lw_all := lw_g (lw_at lw_m2 139 rfl) rfl
theorem q428 : (Jvm.Cond.methodLink "java/lang/String" (640 : Nat) ({ cls := "java/lang/StringUTF16", name := "indexOf", desc := "([BIII)I" } : Jvm.MethodName)) ∈ lw_all := lw_g (lw_at lw_m2 150 rfl) rfl
theorem q444 : (Jvm.Cond.static ({ cls := "java/lang/String", name := "checkBoundsBeginEnd", desc := "(III)V" } : Jvm.MethodName)) ∈ lw_all := lw_g (lw_at lw_m2 166 rfl) rfl
theorem q445 : (Jvm.Cond.code ({ cls := "java/lang/String", name := "checkBoundsBeginEnd", desc := "(III)V" } : Jvm.MethodName) prog_18_method_158_code (3 : Nat) (Option.none : Option Jvm.ClassFile.FieldType)) ∈ lw_all := lw_g (lw_at lw_m2 167 rfl) rfl
theorem q446 : (Jvm.Cond.fieldLink "java/lang/String" (1053 : Nat) "jdk/internal/util/Preconditions" "SIOOBE_FORMATTER" "Ljava/util/function/BiFunction;") ∈ lw_all := lw_g (lw_at lw_m2 168 rfl) rfl
theorem q448 : (Jvm.Cond.methodLink "java/lang/String" (1062 : Nat) ({ cls := "jdk/internal/util/Preconditions", name := "checkFromToIndex", desc := "(IIILjava/util/function/BiFunction;)I" } : Jvm.MethodName)) ∈ lw_all := lw_g (lw_at lw_m2 170 rfl) rfl
theorem q1107 : (Jvm.Cond.fieldLink "java/lang/String" (15 : Nat) "java/lang/String" "coder" "B") ∈ lw_all := lw_g (lw_at lw_m5 109 rfl) rfl
theorem q1108 : (Jvm.Cond.fieldLink "java/lang/String" (9 : Nat) "java/lang/String" "value" "[B") ∈ lw_all := lw_g (lw_at lw_m5 110 rfl) rfl
/-! java/lang/StringLatin1 -/
set_option maxRecDepth 100000
def RJ3 : String := "java/lang/StringLatin1"
abbrev cJ3_indexOf : ByteArray := prog_19_method_22_code
def yJ3_indexOf : MethodName := ⟨RJ3, "indexOf", "([BIII)I"⟩
def dkwJ3_indexOf_1 : List UInt8 := [161, 0, 5, 2, 172, 42, 27, 28, 29, 184, 0, 95, 172]
abbrev dktJ3_indexOf_1 : List UInt8 := dkwJ3_indexOf_1 ++ []
def dkwJ3_indexOf_0 : List UInt8 := [27, 184, 0, 88, 154, 0, 5, 2, 172, 28, 3, 184, 0, 92, 61, 29, 42, 190, 184, 0, 38, 62, 28, 29]
abbrev dktJ3_indexOf_0 : List UInt8 := dkwJ3_indexOf_0 ++ dktJ3_indexOf_1
theorem dksJ3_indexOf_0 : cJ3_indexOf.data.toList.drop 0 = dktJ3_indexOf_0 := by decide +kernel
theorem dksJ3_indexOf_1 : cJ3_indexOf.data.toList.drop 24 = dktJ3_indexOf_1 := dk_seg dksJ3_indexOf_0 24 rfl rfl
theorem dJ3_indexOf_0 : decode cJ3_indexOf 0 = .ok (.iload_n 1, 1) := dk_27 (dk_at dksJ3_indexOf_0 0 rfl rfl)
theorem dJ3_indexOf_1 : decode cJ3_indexOf 1 = .ok (.invokestatic 88, 3) := dk_184 0 88 (dk_at dksJ3_indexOf_0 1 rfl rfl)
theorem dJ3_indexOf_4 : decode cJ3_indexOf 4 = .ok (.ifCond .ne 5, 3) := dk_154 0 5 (dk_at dksJ3_indexOf_0 4 rfl rfl)
theorem dJ3_indexOf_7 : decode cJ3_indexOf 7 = .ok (.iconst (-1), 1) := dk_2 (dk_at dksJ3_indexOf_0 7 rfl rfl)
theorem dJ3_indexOf_8 : decode cJ3_indexOf 8 = .ok (.ireturn, 1) := dk_172 (dk_at dksJ3_indexOf_0 8 rfl rfl)
theorem dJ3_indexOf_9 : decode cJ3_indexOf 9 = .ok (.iload_n 2, 1) := dk_28 (dk_at dksJ3_indexOf_0 9 rfl rfl)
theorem dJ3_indexOf_10 : decode cJ3_indexOf 10 = .ok (.iconst 0, 1) := dk_3 (dk_at dksJ3_indexOf_0 10 rfl rfl)
theorem dJ3_indexOf_11 : decode cJ3_indexOf 11 = .ok (.invokestatic 92, 3) := dk_184 0 92 (dk_at dksJ3_indexOf_0 11 rfl rfl)
theorem dJ3_indexOf_14 : decode cJ3_indexOf 14 = .ok (.istore_n 2, 1) := dk_61 (dk_at dksJ3_indexOf_0 14 rfl rfl)
theorem dJ3_indexOf_15 : decode cJ3_indexOf 15 = .ok (.iload_n 3, 1) := dk_29 (dk_at dksJ3_indexOf_0 15 rfl rfl)
theorem dJ3_indexOf_16 : decode cJ3_indexOf 16 = .ok (.aload_n 0, 1) := dk_42 (dk_at dksJ3_indexOf_0 16 rfl rfl)
theorem dJ3_indexOf_17 : decode cJ3_indexOf 17 = .ok (.arraylength, 1) := dk_190 (dk_at dksJ3_indexOf_0 17 rfl rfl)
theorem dJ3_indexOf_18 : decode cJ3_indexOf 18 = .ok (.invokestatic 38, 3) := dk_184 0 38 (dk_at dksJ3_indexOf_0 18 rfl rfl)
theorem dJ3_indexOf_21 : decode cJ3_indexOf 21 = .ok (.istore_n 3, 1) := dk_62 (dk_at dksJ3_indexOf_0 21 rfl rfl)
theorem dJ3_indexOf_22 : decode cJ3_indexOf 22 = .ok (.iload_n 2, 1) := dk_28 (dk_at dksJ3_indexOf_0 22 rfl rfl)
theorem dJ3_indexOf_23 : decode cJ3_indexOf 23 = .ok (.iload_n 3, 1) := dk_29 (dk_at dksJ3_indexOf_0 23 rfl rfl)
theorem dJ3_indexOf_24 : decode cJ3_indexOf 24 = .ok (.if_icmp .lt 5, 3) := dk_161 0 5 (dk_at dksJ3_indexOf_1 0 rfl rfl)
theorem dJ3_indexOf_27 : decode cJ3_indexOf 27 = .ok (.iconst (-1), 1) := dk_2 (dk_at dksJ3_indexOf_1 3 rfl rfl)
theorem dJ3_indexOf_28 : decode cJ3_indexOf 28 = .ok (.ireturn, 1) := dk_172 (dk_at dksJ3_indexOf_1 4 rfl rfl)
theorem dJ3_indexOf_29 : decode cJ3_indexOf 29 = .ok (.aload_n 0, 1) := dk_42 (dk_at dksJ3_indexOf_1 5 rfl rfl)
theorem dJ3_indexOf_30 : decode cJ3_indexOf 30 = .ok (.iload_n 1, 1) := dk_27 (dk_at dksJ3_indexOf_1 6 rfl rfl)
theorem dJ3_indexOf_31 : decode cJ3_indexOf 31 = .ok (.iload_n 2, 1) := dk_28 (dk_at dksJ3_indexOf_1 7 rfl rfl)
theorem dJ3_indexOf_32 : decode cJ3_indexOf 32 = .ok (.iload_n 3, 1) := dk_29 (dk_at dksJ3_indexOf_1 8 rfl rfl)
theorem dJ3_indexOf_33 : decode cJ3_indexOf 33 = .ok (.invokestatic 95, 3) := dk_184 0 95 (dk_at dksJ3_indexOf_1 9 rfl rfl)
theorem dJ3_indexOf_36 : decode cJ3_indexOf 36 = .ok (.ireturn, 1) := dk_172 (dk_at dksJ3_indexOf_1 12 rfl rfl)
abbrev cJ3_canEncode : ByteArray := prog_19_method_4_code
def yJ3_canEncode : MethodName := ⟨RJ3, "canEncode", "(I)Z"⟩
def dkwJ3_canEncode_0 : List UInt8 := [26, 155, 0, 14, 26, 17, 0, 255, 163, 0, 7, 4, 167, 0, 4, 3, 172]
abbrev dktJ3_canEncode_0 : List UInt8 := dkwJ3_canEncode_0 ++ []
theorem dksJ3_canEncode_0 : cJ3_canEncode.data.toList.drop 0 = dktJ3_canEncode_0 := by decide +kernel
theorem dJ3_canEncode_0 : decode cJ3_canEncode 0 = .ok (.iload_n 0, 1) := dk_26 (dk_at dksJ3_canEncode_0 0 rfl rfl)
theorem dJ3_canEncode_1 : decode cJ3_canEncode 1 = .ok (.ifCond .lt 14, 3) := dk_155 0 14 (dk_at dksJ3_canEncode_0 1 rfl rfl)
theorem dJ3_canEncode_4 : decode cJ3_canEncode 4 = .ok (.iload_n 0, 1) := dk_26 (dk_at dksJ3_canEncode_0 4 rfl rfl)
theorem dJ3_canEncode_5 : decode cJ3_canEncode 5 = .ok (.sipush 255, 3) := dk_17 0 255 (dk_at dksJ3_canEncode_0 5 rfl rfl)
theorem dJ3_canEncode_8 : decode cJ3_canEncode 8 = .ok (.if_icmp .gt 7, 3) := dk_163 0 7 (dk_at dksJ3_canEncode_0 8 rfl rfl)
theorem dJ3_canEncode_11 : decode cJ3_canEncode 11 = .ok (.iconst 1, 1) := dk_4 (dk_at dksJ3_canEncode_0 11 rfl rfl)
theorem dJ3_canEncode_12 : decode cJ3_canEncode 12 = .ok (.goto 4, 3) := dk_167 0 4 (dk_at dksJ3_canEncode_0 12 rfl rfl)
theorem dJ3_canEncode_15 : decode cJ3_canEncode 15 = .ok (.iconst 0, 1) := dk_3 (dk_at dksJ3_canEncode_0 15 rfl rfl)
theorem dJ3_canEncode_16 : decode cJ3_canEncode 16 = .ok (.ireturn, 1) := dk_172 (dk_at dksJ3_canEncode_0 16 rfl rfl)
abbrev cJ3_indexOfChar : ByteArray := prog_19_method_23_code
def yJ3_indexOfChar : MethodName := ⟨RJ3, "indexOfChar", "([BIII)I"⟩
def dkwJ3_indexOfChar_1 : List UInt8 := [172, 132, 5, 1, 167, 255, 235, 2, 172]
abbrev dktJ3_indexOfChar_1 : List UInt8 := dkwJ3_indexOfChar_1 ++ []
def dkwJ3_indexOfChar_0 : List UInt8 := [27, 145, 54, 4, 28, 54, 5, 21, 5, 29, 162, 0, 21, 42, 21, 5, 51, 21, 4, 160, 0, 6, 21, 5]
abbrev dktJ3_indexOfChar_0 : List UInt8 := dkwJ3_indexOfChar_0 ++ dktJ3_indexOfChar_1
theorem dksJ3_indexOfChar_0 : cJ3_indexOfChar.data.toList.drop 0 = dktJ3_indexOfChar_0 := by decide +kernel
theorem dksJ3_indexOfChar_1 : cJ3_indexOfChar.data.toList.drop 24 = dktJ3_indexOfChar_1 := dk_seg dksJ3_indexOfChar_0 24 rfl rfl
theorem dJ3_indexOfChar_0 : decode cJ3_indexOfChar 0 = .ok (.iload_n 1, 1) := dk_27 (dk_at dksJ3_indexOfChar_0 0 rfl rfl)
theorem dJ3_indexOfChar_1 : decode cJ3_indexOfChar 1 = .ok (.i2b, 1) := dk_145 (dk_at dksJ3_indexOfChar_0 1 rfl rfl)
theorem dJ3_indexOfChar_2 : decode cJ3_indexOfChar 2 = .ok (.istore 4, 2) := dk_54 4 (dk_at dksJ3_indexOfChar_0 2 rfl rfl)
theorem dJ3_indexOfChar_4 : decode cJ3_indexOfChar 4 = .ok (.iload_n 2, 1) := dk_28 (dk_at dksJ3_indexOfChar_0 4 rfl rfl)
theorem dJ3_indexOfChar_5 : decode cJ3_indexOfChar 5 = .ok (.istore 5, 2) := dk_54 5 (dk_at dksJ3_indexOfChar_0 5 rfl rfl)
theorem dJ3_indexOfChar_7 : decode cJ3_indexOfChar 7 = .ok (.iload 5, 2) := dk_21 5 (dk_at dksJ3_indexOfChar_0 7 rfl rfl)
theorem dJ3_indexOfChar_9 : decode cJ3_indexOfChar 9 = .ok (.iload_n 3, 1) := dk_29 (dk_at dksJ3_indexOfChar_0 9 rfl rfl)
theorem dJ3_indexOfChar_10 : decode cJ3_indexOfChar 10 = .ok (.if_icmp .ge 21, 3) := dk_162 0 21 (dk_at dksJ3_indexOfChar_0 10 rfl rfl)
theorem dJ3_indexOfChar_13 : decode cJ3_indexOfChar 13 = .ok (.aload_n 0, 1) := dk_42 (dk_at dksJ3_indexOfChar_0 13 rfl rfl)
theorem dJ3_indexOfChar_14 : decode cJ3_indexOfChar 14 = .ok (.iload 5, 2) := dk_21 5 (dk_at dksJ3_indexOfChar_0 14 rfl rfl)
theorem dJ3_indexOfChar_16 : decode cJ3_indexOfChar 16 = .ok (.baload, 1) := dk_51 (dk_at dksJ3_indexOfChar_0 16 rfl rfl)
theorem dJ3_indexOfChar_17 : decode cJ3_indexOfChar 17 = .ok (.iload 4, 2) := dk_21 4 (dk_at dksJ3_indexOfChar_0 17 rfl rfl)
theorem dJ3_indexOfChar_19 : decode cJ3_indexOfChar 19 = .ok (.if_icmp .ne 6, 3) := dk_160 0 6 (dk_at dksJ3_indexOfChar_0 19 rfl rfl)
theorem dJ3_indexOfChar_22 : decode cJ3_indexOfChar 22 = .ok (.iload 5, 2) := dk_21 5 (dk_at dksJ3_indexOfChar_0 22 rfl rfl)
theorem dJ3_indexOfChar_24 : decode cJ3_indexOfChar 24 = .ok (.ireturn, 1) := dk_172 (dk_at dksJ3_indexOfChar_1 0 rfl rfl)
theorem dJ3_indexOfChar_25 : decode cJ3_indexOfChar 25 = .ok (.iinc 5 1, 3) := dk_132 5 1 (dk_at dksJ3_indexOfChar_1 1 rfl rfl)
theorem dJ3_indexOfChar_28 : decode cJ3_indexOfChar 28 = .ok (.goto (-21), 3) := dk_167 255 235 (dk_at dksJ3_indexOfChar_1 4 rfl rfl)
theorem dJ3_indexOfChar_31 : decode cJ3_indexOfChar 31 = .ok (.iconst (-1), 1) := dk_2 (dk_at dksJ3_indexOfChar_1 7 rfl rfl)
theorem dJ3_indexOfChar_32 : decode cJ3_indexOfChar 32 = .ok (.ireturn, 1) := dk_172 (dk_at dksJ3_indexOfChar_1 8 rfl rfl)
theorem q53 : (Jvm.Cond.initialized "java/lang/StringLatin1") ∈ lw_all := lw_g (lw_at lw_m1 15 rfl) rfl
theorem q418 : (Jvm.Cond.static ({ cls := "java/lang/StringLatin1", name := "indexOf", desc := "([BIII)I" } : Jvm.MethodName)) ∈ lw_all := lw_g (lw_at lw_m2 140 rfl) rfl
theorem q419 : (Jvm.Cond.code ({ cls := "java/lang/StringLatin1", name := "indexOf", desc := "([BIII)I" } : Jvm.MethodName) prog_19_method_22_code (4 : Nat) (Option.some Jvm.ClassFile.FieldType.int)) ∈ lw_all := lw_g (lw_at lw_m2 141 rfl) rfl
theorem q420 : (Jvm.Cond.methodLink "java/lang/StringLatin1" (88 : Nat) ({ cls := "java/lang/StringLatin1", name := "canEncode", desc := "(I)Z" } : Jvm.MethodName)) ∈ lw_all := lw_g (lw_at lw_m2 142 rfl) rfl
theorem q421 : (Jvm.Cond.static ({ cls := "java/lang/StringLatin1", name := "canEncode", desc := "(I)Z" } : Jvm.MethodName)) ∈ lw_all := lw_g (lw_at lw_m2 143 rfl) rfl
theorem q422 : (Jvm.Cond.code ({ cls := "java/lang/StringLatin1", name := "canEncode", desc := "(I)Z" } : Jvm.MethodName) prog_19_method_4_code (1 : Nat) (Option.some Jvm.ClassFile.FieldType.boolean)) ∈ lw_all := lw_g (lw_at lw_m2 144 rfl) rfl
theorem q423 : (Jvm.Cond.methodLink "java/lang/StringLatin1" (92 : Nat) ({ cls := "java/lang/Math", name := "max", desc := "(II)I" } : Jvm.MethodName)) ∈ lw_all := lw_g (lw_at lw_m2 145 rfl) rfl
theorem q424 : (Jvm.Cond.methodLink "java/lang/StringLatin1" (38 : Nat) ({ cls := "java/lang/Math", name := "min", desc := "(II)I" } : Jvm.MethodName)) ∈ lw_all := lw_g (lw_at lw_m2 146 rfl) rfl
theorem q425 : (Jvm.Cond.methodLink "java/lang/StringLatin1" (95 : Nat) ({ cls := "java/lang/StringLatin1", name := "indexOfChar", desc := "([BIII)I" } : Jvm.MethodName)) ∈ lw_all := lw_g (lw_at lw_m2 147 rfl) rfl
theorem q426 : (Jvm.Cond.static ({ cls := "java/lang/StringLatin1", name := "indexOfChar", desc := "([BIII)I" } : Jvm.MethodName)) ∈ lw_all := lw_g (lw_at lw_m2 148 rfl) rfl
theorem q427 : (Jvm.Cond.code ({ cls := "java/lang/StringLatin1", name := "indexOfChar", desc := "([BIII)I" } : Jvm.MethodName) prog_19_method_23_code (6 : Nat) (Option.some Jvm.ClassFile.FieldType.int)) ∈ lw_all := lw_g (lw_at lw_m2 149 rfl) rfl
/-! java/lang/Throwable -/
set_option maxRecDepth 100000
def RJ7 : String := "java/lang/Throwable"
def TJ7 : u_T := fun k => match k with
  | 0 => ("java/lang/Throwable", "cause", "Ljava/lang/Throwable;", false)
  | 1 => ("java/lang/Throwable", "stackTrace", "[Ljava/lang/StackTraceElement;", false)
  | 2 => ("java/lang/Throwable", "suppressedExceptions", "Ljava/util/List;", false)
  | 3 => ("java/lang/Throwable", "detailMessage", "Ljava/lang/String;", false)
  | _ => ("java/lang/Throwable", "backtrace", "Ljava/lang/Object;", false)
def tyJ7 : Nat → FieldType := fun k => match k with
  | 0 => .object "java/lang/Throwable"
  | 1 => .array (.object "java/lang/StackTraceElement")
  | 2 => .object "java/util/List"
  | 3 => .object "java/lang/String"
  | _ => .object "java/lang/Object"
abbrev wsJ70 : List Cond := u_ws RJ7 TJ7 5
theorem nmJ7 : ∀ a, a < 5 → ∀ b, b < 5 → a ≠ b → (TJ7 a).2.1 ≠ (TJ7 b).2.1 := by decide +kernel
theorem tyJ7_ok : ∀ k, k < 5 → parseFieldDescriptor (TJ7 k).2.2.1 = some (tyJ7 k) := by decide +kernel
abbrev cJ7_init : ByteArray := prog_22_method_1_code
def yJ7_init : MethodName := ⟨RJ7, "<init>", "()V"⟩
def dkwJ7_init_1 : List UInt8 := [182, 0, 27, 87, 177]
abbrev dktJ7_init_1 : List UInt8 := dkwJ7_init_1 ++ []
def dkwJ7_init_0 : List UInt8 := [42, 183, 0, 1, 42, 42, 181, 0, 7, 42, 178, 0, 13, 181, 0, 17, 42, 178, 0, 20, 181, 0, 24, 42]
abbrev dktJ7_init_0 : List UInt8 := dkwJ7_init_0 ++ dktJ7_init_1
theorem dksJ7_init_0 : cJ7_init.data.toList.drop 0 = dktJ7_init_0 := by decide +kernel
theorem dksJ7_init_1 : cJ7_init.data.toList.drop 24 = dktJ7_init_1 := dk_seg dksJ7_init_0 24 rfl rfl
theorem dJ7_init_0 : decode cJ7_init 0 = .ok (.aload_n 0, 1) := dk_42 (dk_at dksJ7_init_0 0 rfl rfl)
theorem dJ7_init_1 : decode cJ7_init 1 = .ok (.invokespecial 1, 3) := dk_183 0 1 (dk_at dksJ7_init_0 1 rfl rfl)
theorem dJ7_init_4 : decode cJ7_init 4 = .ok (.aload_n 0, 1) := dk_42 (dk_at dksJ7_init_0 4 rfl rfl)
theorem dJ7_init_5 : decode cJ7_init 5 = .ok (.aload_n 0, 1) := dk_42 (dk_at dksJ7_init_0 5 rfl rfl)
theorem dJ7_init_6 : decode cJ7_init 6 = .ok (.putfield 7, 3) := dk_181 0 7 (dk_at dksJ7_init_0 6 rfl rfl)
theorem dJ7_init_9 : decode cJ7_init 9 = .ok (.aload_n 0, 1) := dk_42 (dk_at dksJ7_init_0 9 rfl rfl)
theorem dJ7_init_10 : decode cJ7_init 10 = .ok (.getstatic 13, 3) := dk_178 0 13 (dk_at dksJ7_init_0 10 rfl rfl)
theorem dJ7_init_13 : decode cJ7_init 13 = .ok (.putfield 17, 3) := dk_181 0 17 (dk_at dksJ7_init_0 13 rfl rfl)
theorem dJ7_init_16 : decode cJ7_init 16 = .ok (.aload_n 0, 1) := dk_42 (dk_at dksJ7_init_0 16 rfl rfl)
theorem dJ7_init_17 : decode cJ7_init 17 = .ok (.getstatic 20, 3) := dk_178 0 20 (dk_at dksJ7_init_0 17 rfl rfl)
theorem dJ7_init_20 : decode cJ7_init 20 = .ok (.putfield 24, 3) := dk_181 0 24 (dk_at dksJ7_init_0 20 rfl rfl)
theorem dJ7_init_23 : decode cJ7_init 23 = .ok (.aload_n 0, 1) := dk_42 (dk_at dksJ7_init_0 23 rfl rfl)
theorem dJ7_init_24 : decode cJ7_init 24 = .ok (.invokevirtual 27, 3) := dk_182 0 27 (dk_at dksJ7_init_1 0 rfl rfl)
theorem dJ7_init_27 : decode cJ7_init 27 = .ok (.pop, 1) := dk_87 (dk_at dksJ7_init_1 3 rfl rfl)
theorem dJ7_init_28 : decode cJ7_init 28 = .ok (.return_, 1) := dk_177 (dk_at dksJ7_init_1 4 rfl rfl)
abbrev cJ7_init_2 : ByteArray := prog_22_method_5_code
def yJ7_init_2 : MethodName := ⟨RJ7, "<init>", "(Ljava/lang/String;Ljava/lang/Throwable;ZZ)V"⟩
def dkwJ7_init_2_2 : List UInt8 := [44, 181, 0, 7, 29, 154, 0, 8, 42, 1, 181, 0, 24, 177]
abbrev dktJ7_init_2_2 : List UInt8 := dkwJ7_init_2_2 ++ []
def dkwJ7_init_2_1 : List UInt8 := [21, 4, 153, 0, 11, 42, 182, 0, 27, 87, 167, 0, 8, 42, 1, 181, 0, 17, 42, 43, 181, 0, 31, 42]
abbrev dktJ7_init_2_1 : List UInt8 := dkwJ7_init_2_1 ++ dktJ7_init_2_2
def dkwJ7_init_2_0 : List UInt8 := [42, 183, 0, 1, 42, 42, 181, 0, 7, 42, 178, 0, 13, 181, 0, 17, 42, 178, 0, 20, 181, 0, 24]
abbrev dktJ7_init_2_0 : List UInt8 := dkwJ7_init_2_0 ++ dktJ7_init_2_1
theorem dksJ7_init_2_0 : cJ7_init_2.data.toList.drop 0 = dktJ7_init_2_0 := by decide +kernel
theorem dksJ7_init_2_1 : cJ7_init_2.data.toList.drop 23 = dktJ7_init_2_1 := dk_seg dksJ7_init_2_0 23 rfl rfl
theorem dksJ7_init_2_2 : cJ7_init_2.data.toList.drop 47 = dktJ7_init_2_2 := dk_seg dksJ7_init_2_1 24 rfl rfl
theorem dJ7_init_2_0 : decode cJ7_init_2 0 = .ok (.aload_n 0, 1) := dk_42 (dk_at dksJ7_init_2_0 0 rfl rfl)
theorem dJ7_init_2_1 : decode cJ7_init_2 1 = .ok (.invokespecial 1, 3) := dk_183 0 1 (dk_at dksJ7_init_2_0 1 rfl rfl)
theorem dJ7_init_2_4 : decode cJ7_init_2 4 = .ok (.aload_n 0, 1) := dk_42 (dk_at dksJ7_init_2_0 4 rfl rfl)
theorem dJ7_init_2_5 : decode cJ7_init_2 5 = .ok (.aload_n 0, 1) := dk_42 (dk_at dksJ7_init_2_0 5 rfl rfl)
theorem dJ7_init_2_6 : decode cJ7_init_2 6 = .ok (.putfield 7, 3) := dk_181 0 7 (dk_at dksJ7_init_2_0 6 rfl rfl)
theorem dJ7_init_2_9 : decode cJ7_init_2 9 = .ok (.aload_n 0, 1) := dk_42 (dk_at dksJ7_init_2_0 9 rfl rfl)
theorem dJ7_init_2_10 : decode cJ7_init_2 10 = .ok (.getstatic 13, 3) := dk_178 0 13 (dk_at dksJ7_init_2_0 10 rfl rfl)
theorem dJ7_init_2_13 : decode cJ7_init_2 13 = .ok (.putfield 17, 3) := dk_181 0 17 (dk_at dksJ7_init_2_0 13 rfl rfl)
theorem dJ7_init_2_16 : decode cJ7_init_2 16 = .ok (.aload_n 0, 1) := dk_42 (dk_at dksJ7_init_2_0 16 rfl rfl)
theorem dJ7_init_2_17 : decode cJ7_init_2 17 = .ok (.getstatic 20, 3) := dk_178 0 20 (dk_at dksJ7_init_2_0 17 rfl rfl)
theorem dJ7_init_2_20 : decode cJ7_init_2 20 = .ok (.putfield 24, 3) := dk_181 0 24 (dk_at dksJ7_init_2_0 20 rfl rfl)
theorem dJ7_init_2_23 : decode cJ7_init_2 23 = .ok (.iload 4, 2) := dk_21 4 (dk_at dksJ7_init_2_1 0 rfl rfl)
theorem dJ7_init_2_25 : decode cJ7_init_2 25 = .ok (.ifCond .eq 11, 3) := dk_153 0 11 (dk_at dksJ7_init_2_1 2 rfl rfl)
theorem dJ7_init_2_28 : decode cJ7_init_2 28 = .ok (.aload_n 0, 1) := dk_42 (dk_at dksJ7_init_2_1 5 rfl rfl)
theorem dJ7_init_2_29 : decode cJ7_init_2 29 = .ok (.invokevirtual 27, 3) := dk_182 0 27 (dk_at dksJ7_init_2_1 6 rfl rfl)
theorem dJ7_init_2_32 : decode cJ7_init_2 32 = .ok (.pop, 1) := dk_87 (dk_at dksJ7_init_2_1 9 rfl rfl)
theorem dJ7_init_2_33 : decode cJ7_init_2 33 = .ok (.goto 8, 3) := dk_167 0 8 (dk_at dksJ7_init_2_1 10 rfl rfl)
theorem dJ7_init_2_36 : decode cJ7_init_2 36 = .ok (.aload_n 0, 1) := dk_42 (dk_at dksJ7_init_2_1 13 rfl rfl)
theorem dJ7_init_2_37 : decode cJ7_init_2 37 = .ok (.aconst_null, 1) := dk_1 (dk_at dksJ7_init_2_1 14 rfl rfl)
theorem dJ7_init_2_38 : decode cJ7_init_2 38 = .ok (.putfield 17, 3) := dk_181 0 17 (dk_at dksJ7_init_2_1 15 rfl rfl)
theorem dJ7_init_2_41 : decode cJ7_init_2 41 = .ok (.aload_n 0, 1) := dk_42 (dk_at dksJ7_init_2_1 18 rfl rfl)
theorem dJ7_init_2_42 : decode cJ7_init_2 42 = .ok (.aload_n 1, 1) := dk_43 (dk_at dksJ7_init_2_1 19 rfl rfl)
theorem dJ7_init_2_43 : decode cJ7_init_2 43 = .ok (.putfield 31, 3) := dk_181 0 31 (dk_at dksJ7_init_2_1 20 rfl rfl)
theorem dJ7_init_2_46 : decode cJ7_init_2 46 = .ok (.aload_n 0, 1) := dk_42 (dk_at dksJ7_init_2_1 23 rfl rfl)
theorem dJ7_init_2_47 : decode cJ7_init_2 47 = .ok (.aload_n 2, 1) := dk_44 (dk_at dksJ7_init_2_2 0 rfl rfl)
theorem dJ7_init_2_48 : decode cJ7_init_2 48 = .ok (.putfield 7, 3) := dk_181 0 7 (dk_at dksJ7_init_2_2 1 rfl rfl)
theorem dJ7_init_2_51 : decode cJ7_init_2 51 = .ok (.iload_n 3, 1) := dk_29 (dk_at dksJ7_init_2_2 4 rfl rfl)
theorem dJ7_init_2_52 : decode cJ7_init_2 52 = .ok (.ifCond .ne 8, 3) := dk_154 0 8 (dk_at dksJ7_init_2_2 5 rfl rfl)
theorem dJ7_init_2_55 : decode cJ7_init_2 55 = .ok (.aload_n 0, 1) := dk_42 (dk_at dksJ7_init_2_2 8 rfl rfl)
theorem dJ7_init_2_56 : decode cJ7_init_2 56 = .ok (.aconst_null, 1) := dk_1 (dk_at dksJ7_init_2_2 9 rfl rfl)
theorem dJ7_init_2_57 : decode cJ7_init_2 57 = .ok (.putfield 24, 3) := dk_181 0 24 (dk_at dksJ7_init_2_2 10 rfl rfl)
theorem dJ7_init_2_60 : decode cJ7_init_2 60 = .ok (.return_, 1) := dk_177 (dk_at dksJ7_init_2_2 13 rfl rfl)
theorem q57 : (Jvm.Cond.initialized "java/lang/Throwable") ∈ lw_all := lw_g (lw_at lw_m1 19 rfl) rfl
theorem q492 : (Jvm.Cond.declares ({ cls := "java/lang/Throwable", name := "<init>", desc := "()V" } : Jvm.MethodName)) ∈ lw_tbl := lw_at lw_m2 214 rfl
theorem q493 : (Jvm.Cond.declares ({ cls := "java/lang/Throwable", name := "<init>", desc := "(Ljava/lang/String;)V" } : Jvm.MethodName)) ∈ lw_tbl := lw_at lw_m2 215 rfl
theorem q497 : (Jvm.Cond.lays "java/lang/Throwable" "java/lang/Throwable" "cause" "Ljava/lang/Throwable;") ∈ lw_all := lw_g (lw_at lw_m2 219 rfl) rfl
theorem q499 : (Jvm.Cond.lays "java/lang/Throwable" "java/lang/Throwable" "stackTrace" "[Ljava/lang/StackTraceElement;") ∈ lw_all := lw_g (lw_at lw_m2 221 rfl) rfl
theorem q501 : (Jvm.Cond.lays "java/lang/Throwable" "java/lang/Throwable" "suppressedExceptions" "Ljava/util/List;") ∈ lw_all := lw_g (lw_at lw_m2 223 rfl) rfl
theorem q503 : (Jvm.Cond.lays "java/lang/Throwable" "java/lang/Throwable" "detailMessage" "Ljava/lang/String;") ∈ lw_all := lw_g (lw_at lw_m2 225 rfl) rfl
theorem q505 : (Jvm.Cond.lays "java/lang/Throwable" "java/lang/Throwable" "backtrace" "Ljava/lang/Object;") ∈ lw_all := lw_g (lw_at lw_m2 227 rfl) rfl
theorem q506 : (Jvm.Cond.fieldLink "java/lang/Throwable" (198 : Nat) "java/lang/Throwable" "backtrace" "Ljava/lang/Object;") ∈ lw_all := lw_g (lw_at lw_m2 228 rfl) rfl
theorem q507 : (Jvm.Cond.superclass "java/lang/Throwable" "java/lang/Object") ∈ lw_all := lw_g (lw_at lw_m2 229 rfl) rfl
theorem q508 : (Jvm.Cond.instanceMethod ({ cls := "java/lang/Throwable", name := "<init>", desc := "()V" } : Jvm.MethodName)) ∈ lw_all := lw_g (lw_at lw_m2 230 rfl) rfl
theorem q509 : (Jvm.Cond.code ({ cls := "java/lang/Throwable", name := "<init>", desc := "()V" } : Jvm.MethodName) prog_22_method_1_code (1 : Nat) (Option.none : Option Jvm.ClassFile.FieldType)) ∈ lw_all := lw_g (lw_at lw_m2 231 rfl) rfl
theorem q510 : (Jvm.Cond.methodLink "java/lang/Throwable" (1 : Nat) ({ cls := "java/lang/Object", name := "<init>", desc := "()V" } : Jvm.MethodName)) ∈ lw_all := lw_g (lw_at lw_m2 232 rfl) rfl
theorem q511 : (Jvm.Cond.fieldLink "java/lang/Throwable" (13 : Nat) "java/lang/Throwable" "UNASSIGNED_STACK" "[Ljava/lang/StackTraceElement;") ∈ lw_all := lw_g (lw_at lw_m2 233 rfl) rfl
theorem q512 : (Jvm.Cond.laysStatic "java/lang/Throwable" "UNASSIGNED_STACK" "[Ljava/lang/StackTraceElement;") ∈ lw_tbl := lw_at lw_m2 234 rfl
theorem q513 : (Jvm.Cond.fieldLink "java/lang/Throwable" (20 : Nat) "java/lang/Throwable" "SUPPRESSED_SENTINEL" "Ljava/util/List;") ∈ lw_all := lw_g (lw_at lw_m2 235 rfl) rfl
theorem q514 : (Jvm.Cond.laysStatic "java/lang/Throwable" "SUPPRESSED_SENTINEL" "Ljava/util/List;") ∈ lw_tbl := lw_at lw_m2 236 rfl
theorem q515 : (Jvm.Cond.methodLink "java/lang/Throwable" (27 : Nat) ({ cls := "java/lang/Throwable", name := "fillInStackTrace", desc := "()Ljava/lang/Throwable;" } : Jvm.MethodName)) ∈ lw_all := lw_g (lw_at lw_m2 237 rfl) rfl
theorem q516 : (Jvm.Cond.instanceMethod ({ cls := "java/lang/Throwable", name := "fillInStackTrace", desc := "()Ljava/lang/Throwable;" } : Jvm.MethodName)) ∈ lw_all := lw_g (lw_at lw_m2 238 rfl) rfl
theorem q517 : (Jvm.Cond.sameMethod "java/lang/Throwable" "java/lang/Throwable" "fillInStackTrace" "()Ljava/lang/Throwable;") ∈ lw_all := lw_g (lw_at lw_m2 239 rfl) rfl
theorem q518 : (Jvm.Cond.codeSync ({ cls := "java/lang/Throwable", name := "fillInStackTrace", desc := "()Ljava/lang/Throwable;" } : Jvm.MethodName) prog_22_method_18_code (1 : Nat) (Option.some (Jvm.ClassFile.FieldType.object "java/lang/Throwable"))) ∈ lw_all := lw_g (lw_at lw_m3 0 rfl) rfl
theorem q519 : (Jvm.Cond.methodLink "java/lang/Throwable" (202 : Nat) ({ cls := "java/lang/Throwable", name := "fillInStackTrace", desc := "(I)Ljava/lang/Throwable;" } : Jvm.MethodName)) ∈ lw_all := lw_g (lw_at lw_m3 1 rfl) rfl
theorem q520 : (Jvm.Cond.privateMethod ({ cls := "java/lang/Throwable", name := "fillInStackTrace", desc := "(I)Ljava/lang/Throwable;" } : Jvm.MethodName)) ∈ lw_tbl := lw_at lw_m3 2 rfl
theorem q521 : (Jvm.Cond.instanceMethod ({ cls := "java/lang/Throwable", name := "fillInStackTrace", desc := "(I)Ljava/lang/Throwable;" } : Jvm.MethodName)) ∈ lw_all := lw_g (lw_at lw_m3 3 rfl) rfl
theorem q522 : (Jvm.Cond.instantiable "java/lang/Throwable" (6 : Nat)) ∈ lw_all := lw_g (lw_at lw_m3 4 rfl) rfl
theorem q523 : (Jvm.Cond.native ({ cls := "java/lang/Throwable", name := "fillInStackTrace", desc := "(I)Ljava/lang/Throwable;" } : Jvm.MethodName)) ∈ lw_all := lw_g (lw_at lw_m3 5 rfl) rfl
theorem q534 : (Jvm.Cond.instanceMethod ({ cls := "java/lang/Throwable", name := "<init>", desc := "(Ljava/lang/String;Ljava/lang/Throwable;ZZ)V" } : Jvm.MethodName)) ∈ lw_all := lw_g (lw_at lw_m3 16 rfl) rfl
theorem q535 : (Jvm.Cond.code ({ cls := "java/lang/Throwable", name := "<init>", desc := "(Ljava/lang/String;Ljava/lang/Throwable;ZZ)V" } : Jvm.MethodName) prog_22_method_5_code (5 : Nat) (Option.none : Option Jvm.ClassFile.FieldType)) ∈ lw_all := lw_g (lw_at lw_m3 17 rfl) rfl
theorem q538 : (Jvm.Cond.fieldLink "java/lang/Throwable" (198 : Nat) "java/lang/Throwable" "backtrace" "Ljava/lang/Object;") ∈ lw_all := lw_g (lw_at lw_m3 20 rfl) rfl
theorem q539 : (Jvm.Cond.fieldLink "java/lang/Throwable" (31 : Nat) "java/lang/Throwable" "detailMessage" "Ljava/lang/String;") ∈ lw_all := lw_g (lw_at lw_m3 21 rfl) rfl
theorem q540 : (Jvm.Cond.fieldLink "java/lang/Throwable" (7 : Nat) "java/lang/Throwable" "cause" "Ljava/lang/Throwable;") ∈ lw_all := lw_g (lw_at lw_m3 22 rfl) rfl
theorem q541 : (Jvm.Cond.fieldLink "java/lang/Throwable" (17 : Nat) "java/lang/Throwable" "stackTrace" "[Ljava/lang/StackTraceElement;") ∈ lw_all := lw_g (lw_at lw_m3 23 rfl) rfl
theorem q542 : (Jvm.Cond.fieldLink "java/lang/Throwable" (24 : Nat) "java/lang/Throwable" "suppressedExceptions" "Ljava/util/List;") ∈ lw_all := lw_g (lw_at lw_m3 24 rfl) rfl
theorem q545 : (Jvm.Cond.soleField "java/lang/Throwable" "backtrace") ∈ lw_all := lw_g (lw_at lw_m3 27 rfl) rfl
theorem q546 : (Jvm.Cond.soleField "java/lang/Throwable" "detailMessage") ∈ lw_all := lw_g (lw_at lw_m3 28 rfl) rfl
theorem q547 : (Jvm.Cond.soleField "java/lang/Throwable" "cause") ∈ lw_all := lw_g (lw_at lw_m3 29 rfl) rfl
theorem q548 : (Jvm.Cond.soleField "java/lang/Throwable" "stackTrace") ∈ lw_all := lw_g (lw_at lw_m3 30 rfl) rfl
theorem q550 : (Jvm.Cond.soleField "java/lang/Throwable" "depth") ∈ lw_all := lw_g (lw_at lw_m3 32 rfl) rfl
theorem q551 : (Jvm.Cond.soleField "java/lang/Throwable" "suppressedExceptions") ∈ lw_all := lw_g (lw_at lw_m3 33 rfl) rfl
theorem q1099 : (Jvm.Cond.sameMethod "java/lang/Throwable" "java/lang/Throwable" "fillInStackTrace" "(I)Ljava/lang/Throwable;") ∈ lw_all := lw_g (lw_at lw_m5 101 rfl) rfl
theorem in_J7 : ∀ w ∈ wsJ70, w ∈ lw_all := lw_in wsJ70 [497, 499, 501, 503, 505] (by decide +kernel) (by decide +kernel)
/-! java/lang/Exception -/
set_option maxRecDepth 100000
def RJ8 : String := "java/lang/Exception"
abbrev cJ8_init : ByteArray := prog_15_method_5_code
def yJ8_init : MethodName := ⟨RJ8, "<init>", "(Ljava/lang/String;Ljava/lang/Throwable;ZZ)V"⟩
def dkwJ8_init_0 : List UInt8 := [42, 43, 44, 29, 21, 4, 183, 0, 16, 177]
abbrev dktJ8_init_0 : List UInt8 := dkwJ8_init_0 ++ []
theorem dksJ8_init_0 : cJ8_init.data.toList.drop 0 = dktJ8_init_0 := by decide +kernel
theorem dJ8_init_0 : decode cJ8_init 0 = .ok (.aload_n 0, 1) := dk_42 (dk_at dksJ8_init_0 0 rfl rfl)
theorem dJ8_init_1 : decode cJ8_init 1 = .ok (.aload_n 1, 1) := dk_43 (dk_at dksJ8_init_0 1 rfl rfl)
theorem dJ8_init_2 : decode cJ8_init 2 = .ok (.aload_n 2, 1) := dk_44 (dk_at dksJ8_init_0 2 rfl rfl)
theorem dJ8_init_3 : decode cJ8_init 3 = .ok (.iload_n 3, 1) := dk_29 (dk_at dksJ8_init_0 3 rfl rfl)
theorem dJ8_init_4 : decode cJ8_init 4 = .ok (.iload 4, 2) := dk_21 4 (dk_at dksJ8_init_0 4 rfl rfl)
theorem dJ8_init_6 : decode cJ8_init 6 = .ok (.invokespecial 16, 3) := dk_183 0 16 (dk_at dksJ8_init_0 6 rfl rfl)
theorem dJ8_init_9 : decode cJ8_init 9 = .ok (.return_, 1) := dk_177 (dk_at dksJ8_init_0 9 rfl rfl)
theorem q58 : (Jvm.Cond.initialized "java/lang/Exception") ∈ lw_all := lw_g (lw_at lw_m1 20 rfl) rfl
theorem q490 : (Jvm.Cond.declares ({ cls := "java/lang/Exception", name := "<init>", desc := "()V" } : Jvm.MethodName)) ∈ lw_tbl := lw_at lw_m2 212 rfl
theorem q491 : (Jvm.Cond.declares ({ cls := "java/lang/Exception", name := "<init>", desc := "(Ljava/lang/String;)V" } : Jvm.MethodName)) ∈ lw_tbl := lw_at lw_m2 213 rfl
theorem q531 : (Jvm.Cond.instanceMethod ({ cls := "java/lang/Exception", name := "<init>", desc := "(Ljava/lang/String;Ljava/lang/Throwable;ZZ)V" } : Jvm.MethodName)) ∈ lw_all := lw_g (lw_at lw_m3 13 rfl) rfl
theorem q532 : (Jvm.Cond.code ({ cls := "java/lang/Exception", name := "<init>", desc := "(Ljava/lang/String;Ljava/lang/Throwable;ZZ)V" } : Jvm.MethodName) prog_15_method_5_code (5 : Nat) (Option.none : Option Jvm.ClassFile.FieldType)) ∈ lw_all := lw_g (lw_at lw_m3 14 rfl) rfl
theorem q533 : (Jvm.Cond.methodLink "java/lang/Exception" (16 : Nat) ({ cls := "java/lang/Throwable", name := "<init>", desc := "(Ljava/lang/String;Ljava/lang/Throwable;ZZ)V" } : Jvm.MethodName)) ∈ lw_all := lw_g (lw_at lw_m3 15 rfl) rfl
/-! java/lang/RuntimeException -/
set_option maxRecDepth 100000
def RJ9 : String := "java/lang/RuntimeException"
abbrev cJ9_init : ByteArray := prog_17_method_5_code
def yJ9_init : MethodName := ⟨RJ9, "<init>", "(Ljava/lang/String;Ljava/lang/Throwable;ZZ)V"⟩
def dkwJ9_init_0 : List UInt8 := [42, 43, 44, 29, 21, 4, 183, 0, 16, 177]
abbrev dktJ9_init_0 : List UInt8 := dkwJ9_init_0 ++ []
theorem dksJ9_init_0 : cJ9_init.data.toList.drop 0 = dktJ9_init_0 := by decide +kernel
theorem dJ9_init_0 : decode cJ9_init 0 = .ok (.aload_n 0, 1) := dk_42 (dk_at dksJ9_init_0 0 rfl rfl)
theorem dJ9_init_1 : decode cJ9_init 1 = .ok (.aload_n 1, 1) := dk_43 (dk_at dksJ9_init_0 1 rfl rfl)
theorem dJ9_init_2 : decode cJ9_init 2 = .ok (.aload_n 2, 1) := dk_44 (dk_at dksJ9_init_0 2 rfl rfl)
theorem dJ9_init_3 : decode cJ9_init 3 = .ok (.iload_n 3, 1) := dk_29 (dk_at dksJ9_init_0 3 rfl rfl)
theorem dJ9_init_4 : decode cJ9_init 4 = .ok (.iload 4, 2) := dk_21 4 (dk_at dksJ9_init_0 4 rfl rfl)
theorem dJ9_init_6 : decode cJ9_init 6 = .ok (.invokespecial 16, 3) := dk_183 0 16 (dk_at dksJ9_init_0 6 rfl rfl)
theorem dJ9_init_9 : decode cJ9_init 9 = .ok (.return_, 1) := dk_177 (dk_at dksJ9_init_0 9 rfl rfl)
theorem q59 : (Jvm.Cond.initialized "java/lang/RuntimeException") ∈ lw_all := lw_g (lw_at lw_m1 21 rfl) rfl
theorem q488 : (Jvm.Cond.declares ({ cls := "java/lang/RuntimeException", name := "<init>", desc := "()V" } : Jvm.MethodName)) ∈ lw_tbl := lw_at lw_m2 210 rfl
theorem q489 : (Jvm.Cond.declares ({ cls := "java/lang/RuntimeException", name := "<init>", desc := "(Ljava/lang/String;)V" } : Jvm.MethodName)) ∈ lw_tbl := lw_at lw_m2 211 rfl
theorem q528 : (Jvm.Cond.instanceMethod ({ cls := "java/lang/RuntimeException", name := "<init>", desc := "(Ljava/lang/String;Ljava/lang/Throwable;ZZ)V" } : Jvm.MethodName)) ∈ lw_all := lw_g (lw_at lw_m3 10 rfl) rfl
theorem q529 : (Jvm.Cond.code ({ cls := "java/lang/RuntimeException", name := "<init>", desc := "(Ljava/lang/String;Ljava/lang/Throwable;ZZ)V" } : Jvm.MethodName) prog_17_method_5_code (5 : Nat) (Option.none : Option Jvm.ClassFile.FieldType)) ∈ lw_all := lw_g (lw_at lw_m3 11 rfl) rfl
theorem q530 : (Jvm.Cond.methodLink "java/lang/RuntimeException" (16 : Nat) ({ cls := "java/lang/Exception", name := "<init>", desc := "(Ljava/lang/String;Ljava/lang/Throwable;ZZ)V" } : Jvm.MethodName)) ∈ lw_all := lw_g (lw_at lw_m3 12 rfl) rfl
