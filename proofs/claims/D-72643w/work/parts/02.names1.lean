/-! DECODE ROWS BY BYTES: one lemma an opcode; a method's code is cut into short pieces once, and a row reads its own piece alone. -/
set_option maxRecDepth 100000
/-- the code has just these bytes from pc on -/
def DkAt (code : ByteArray) (pc : Nat) (bs : List UInt8) : Prop := ∀ (j : Nat) (b : UInt8), bs[j]? = some b → code.data.toList[pc + j]? = some b
/-- the piece W has the bytes bs from its place j on -/
def dkIn (W : List UInt8) (j : Nat) (bs : List UInt8) : Bool := decide ((W.drop j).take bs.length = bs)
theorem dk_seg {l W T : List UInt8} {o o2 : Nat} (h : l.drop o = W ++ T) (n : Nat) (hn : W.length = n) (ho : o + n = o2) : l.drop o2 = T := by
  subst ho
  rw [← List.drop_drop, h, List.drop_left' hn]
theorem dk_at {code : ByteArray} {W T bs : List UInt8} {o pc : Nat} (h : code.data.toList.drop o = W ++ T) (j : Nat) (hp : o + j = pc) (hw : dkIn W j bs = true) : DkAt code pc bs := by
  subst hp
  intro i b e
  have h1 := of_decide_eq_true hw
  have h2 : i < bs.length := (List.getElem?_eq_some_iff.mp e).1
  have h3 : W[j + i]? = some b := by
    rw [← h1, List.getElem?_take, if_pos h2, List.getElem?_drop] at e
    exact e
  have h4 : j + i < W.length := (List.getElem?_eq_some_iff.mp h3).1
  have h5 : (code.data.toList.drop o)[j + i]? = some b := by
    rw [h, List.getElem?_append_left h4]
    exact h3
  rw [List.getElem?_drop, ← Nat.add_assoc] at h5
  exact h5
theorem dk_u1 {A : ByteArray} {p : Nat} {b : UInt8} (h : A.data.toList[p]? = some b) : (Reader.u1 : Reader DecodeError Nat) A p = .ok (b.toNat, p + 1) := by
  obtain ⟨h1, h2⟩ := List.getElem?_eq_some_iff.mp h
  have h3 : p < A.size := by simpa using h1
  have h4 : A[p]'h3 = b := h2
  have e : (Reader.u1 : Reader DecodeError Nat) A p = (if h : p < A.size then .ok (A[p].toNat, p + 1) else .error (HasTruncated.truncated p)) := by
    show (do if h : p < A.size then do set (p + 1); Pure.pure A[p].toNat else MonadExcept.throw (HasTruncated.truncated p) : Reader DecodeError Nat) A p = _
    by_cases hi : p < A.size
    · rw [dif_pos hi, dif_pos hi]; rfl
    · rw [dif_neg hi, dif_neg hi]; rfl
  rw [e, dif_pos h3, h4]
theorem dk_bind {α β : Type} {r : Reader DecodeError α} {f : α → Reader DecodeError β} {A : ByteArray} {p s : Nat} {a : α} (h : r A p = .ok (a, s)) : (r >>= f) A p = f a A s := by
  show (do let (a, s) ← r A p; f a A s : Except DecodeError (β × Nat)) = _
  rw [h]
  rfl
theorem dk_map {α β : Type} {r : Reader DecodeError α} {g : α → β} {A : ByteArray} {p s : Nat} {a : α} (h : r A p = .ok (a, s)) : (g <$> r) A p = .ok (g a, s) := by
  show (do let (a, s) ← r A p; .ok (g a, s) : Except DecodeError (β × Nat)) = _
  rw [h]
  rfl
theorem dk_u2 {A : ByteArray} {p : Nat} {a b : UInt8} (h : A.data.toList[p]? = some a) (h2 : A.data.toList[p + 1]? = some b) : (Reader.u2 : Reader DecodeError Nat) A p = .ok (a.toNat * 256 + b.toNat, p + 2) := by
  show (Reader.u1 >>= fun hi => Reader.u1 >>= fun lo => Pure.pure (hi * 256 + lo) : Reader DecodeError Nat) A p = _
  rw [dk_bind (dk_u1 h), dk_bind (dk_u1 h2)]
  rfl
theorem dk_of {code : ByteArray} {pc n : Nat} {i : Instr} (h : Decoder.instr pc code pc = .ok (i, pc + n)) : decode code pc = .ok (i, n) := by
  have e : decode code pc = (match Decoder.instr pc code pc with | .error x => .error x | .ok (j, s) => .ok (j, s - pc)) := by
    show (do let (j, s) ← Decoder.instr pc code pc; Pure.pure (j, s - pc) : Except DecodeError (Instr × Nat)) = _
    cases Decoder.instr pc code pc <;> rfl
  rw [e, h]
  show Except.ok (i, pc + n - pc) = _
  rw [Nat.add_sub_cancel_left]
theorem dk_1 {code : ByteArray} {pc : Nat} (h : DkAt code pc [1]) : decode code pc = .ok (.aconst_null, 1) := dk_of ((dk_bind (dk_u1 (h 0 _ rfl))).trans rfl)
theorem dk_2 {code : ByteArray} {pc : Nat} (h : DkAt code pc [2]) : decode code pc = .ok (.iconst (-1), 1) := dk_of ((dk_bind (dk_u1 (h 0 _ rfl))).trans rfl)
theorem dk_3 {code : ByteArray} {pc : Nat} (h : DkAt code pc [3]) : decode code pc = .ok (.iconst 0, 1) := dk_of ((dk_bind (dk_u1 (h 0 _ rfl))).trans rfl)
theorem dk_4 {code : ByteArray} {pc : Nat} (h : DkAt code pc [4]) : decode code pc = .ok (.iconst 1, 1) := dk_of ((dk_bind (dk_u1 (h 0 _ rfl))).trans rfl)
theorem dk_5 {code : ByteArray} {pc : Nat} (h : DkAt code pc [5]) : decode code pc = .ok (.iconst 2, 1) := dk_of ((dk_bind (dk_u1 (h 0 _ rfl))).trans rfl)
theorem dk_6 {code : ByteArray} {pc : Nat} (h : DkAt code pc [6]) : decode code pc = .ok (.iconst 3, 1) := dk_of ((dk_bind (dk_u1 (h 0 _ rfl))).trans rfl)
theorem dk_7 {code : ByteArray} {pc : Nat} (h : DkAt code pc [7]) : decode code pc = .ok (.iconst 4, 1) := dk_of ((dk_bind (dk_u1 (h 0 _ rfl))).trans rfl)
theorem dk_8 {code : ByteArray} {pc : Nat} (h : DkAt code pc [8]) : decode code pc = .ok (.iconst 5, 1) := dk_of ((dk_bind (dk_u1 (h 0 _ rfl))).trans rfl)
theorem dk_16 {code : ByteArray} {pc : Nat} (a : UInt8) (h : DkAt code pc [16, a]) : decode code pc = .ok (.bipush (Reader.signed 8 a.toNat), 2) := dk_of ((dk_bind (dk_u1 (h 0 _ rfl))).trans ((dk_bind (dk_map (dk_u1 (h 1 _ rfl)))).trans rfl))
theorem dk_17 {code : ByteArray} {pc : Nat} (a b : UInt8) (h : DkAt code pc [17, a, b]) : decode code pc = .ok (.sipush (Reader.signed 16 (a.toNat * 256 + b.toNat)), 3) := dk_of ((dk_bind (dk_u1 (h 0 _ rfl))).trans ((dk_bind (dk_map (dk_u2 (h 1 _ rfl) (h 2 _ rfl)))).trans rfl))
theorem dk_18 {code : ByteArray} {pc : Nat} (a : UInt8) (h : DkAt code pc [18, a]) : decode code pc = .ok (.ldc a.toNat, 2) := dk_of ((dk_bind (dk_u1 (h 0 _ rfl))).trans ((dk_bind (dk_u1 (h 1 _ rfl))).trans rfl))
theorem dk_21 {code : ByteArray} {pc : Nat} (a : UInt8) (h : DkAt code pc [21, a]) : decode code pc = .ok (.iload a.toNat, 2) := dk_of ((dk_bind (dk_u1 (h 0 _ rfl))).trans ((dk_bind (dk_u1 (h 1 _ rfl))).trans rfl))
theorem dk_25 {code : ByteArray} {pc : Nat} (a : UInt8) (h : DkAt code pc [25, a]) : decode code pc = .ok (.aload a.toNat, 2) := dk_of ((dk_bind (dk_u1 (h 0 _ rfl))).trans ((dk_bind (dk_u1 (h 1 _ rfl))).trans rfl))
theorem dk_26 {code : ByteArray} {pc : Nat} (h : DkAt code pc [26]) : decode code pc = .ok (.iload_n 0, 1) := dk_of ((dk_bind (dk_u1 (h 0 _ rfl))).trans rfl)
theorem dk_27 {code : ByteArray} {pc : Nat} (h : DkAt code pc [27]) : decode code pc = .ok (.iload_n 1, 1) := dk_of ((dk_bind (dk_u1 (h 0 _ rfl))).trans rfl)
theorem dk_28 {code : ByteArray} {pc : Nat} (h : DkAt code pc [28]) : decode code pc = .ok (.iload_n 2, 1) := dk_of ((dk_bind (dk_u1 (h 0 _ rfl))).trans rfl)
theorem dk_29 {code : ByteArray} {pc : Nat} (h : DkAt code pc [29]) : decode code pc = .ok (.iload_n 3, 1) := dk_of ((dk_bind (dk_u1 (h 0 _ rfl))).trans rfl)
theorem dk_42 {code : ByteArray} {pc : Nat} (h : DkAt code pc [42]) : decode code pc = .ok (.aload_n 0, 1) := dk_of ((dk_bind (dk_u1 (h 0 _ rfl))).trans rfl)
theorem dk_43 {code : ByteArray} {pc : Nat} (h : DkAt code pc [43]) : decode code pc = .ok (.aload_n 1, 1) := dk_of ((dk_bind (dk_u1 (h 0 _ rfl))).trans rfl)
theorem dk_44 {code : ByteArray} {pc : Nat} (h : DkAt code pc [44]) : decode code pc = .ok (.aload_n 2, 1) := dk_of ((dk_bind (dk_u1 (h 0 _ rfl))).trans rfl)
theorem dk_45 {code : ByteArray} {pc : Nat} (h : DkAt code pc [45]) : decode code pc = .ok (.aload_n 3, 1) := dk_of ((dk_bind (dk_u1 (h 0 _ rfl))).trans rfl)
theorem dk_46 {code : ByteArray} {pc : Nat} (h : DkAt code pc [46]) : decode code pc = .ok (.iaload, 1) := dk_of ((dk_bind (dk_u1 (h 0 _ rfl))).trans rfl)
theorem dk_50 {code : ByteArray} {pc : Nat} (h : DkAt code pc [50]) : decode code pc = .ok (.aaload, 1) := dk_of ((dk_bind (dk_u1 (h 0 _ rfl))).trans rfl)
theorem dk_51 {code : ByteArray} {pc : Nat} (h : DkAt code pc [51]) : decode code pc = .ok (.baload, 1) := dk_of ((dk_bind (dk_u1 (h 0 _ rfl))).trans rfl)
theorem dk_54 {code : ByteArray} {pc : Nat} (a : UInt8) (h : DkAt code pc [54, a]) : decode code pc = .ok (.istore a.toNat, 2) := dk_of ((dk_bind (dk_u1 (h 0 _ rfl))).trans ((dk_bind (dk_u1 (h 1 _ rfl))).trans rfl))
theorem dk_58 {code : ByteArray} {pc : Nat} (a : UInt8) (h : DkAt code pc [58, a]) : decode code pc = .ok (.astore a.toNat, 2) := dk_of ((dk_bind (dk_u1 (h 0 _ rfl))).trans ((dk_bind (dk_u1 (h 1 _ rfl))).trans rfl))
theorem dk_60 {code : ByteArray} {pc : Nat} (h : DkAt code pc [60]) : decode code pc = .ok (.istore_n 1, 1) := dk_of ((dk_bind (dk_u1 (h 0 _ rfl))).trans rfl)
theorem dk_61 {code : ByteArray} {pc : Nat} (h : DkAt code pc [61]) : decode code pc = .ok (.istore_n 2, 1) := dk_of ((dk_bind (dk_u1 (h 0 _ rfl))).trans rfl)
theorem dk_62 {code : ByteArray} {pc : Nat} (h : DkAt code pc [62]) : decode code pc = .ok (.istore_n 3, 1) := dk_of ((dk_bind (dk_u1 (h 0 _ rfl))).trans rfl)
theorem dk_76 {code : ByteArray} {pc : Nat} (h : DkAt code pc [76]) : decode code pc = .ok (.astore_n 1, 1) := dk_of ((dk_bind (dk_u1 (h 0 _ rfl))).trans rfl)
theorem dk_77 {code : ByteArray} {pc : Nat} (h : DkAt code pc [77]) : decode code pc = .ok (.astore_n 2, 1) := dk_of ((dk_bind (dk_u1 (h 0 _ rfl))).trans rfl)
theorem dk_78 {code : ByteArray} {pc : Nat} (h : DkAt code pc [78]) : decode code pc = .ok (.astore_n 3, 1) := dk_of ((dk_bind (dk_u1 (h 0 _ rfl))).trans rfl)
theorem dk_79 {code : ByteArray} {pc : Nat} (h : DkAt code pc [79]) : decode code pc = .ok (.iastore, 1) := dk_of ((dk_bind (dk_u1 (h 0 _ rfl))).trans rfl)
theorem dk_83 {code : ByteArray} {pc : Nat} (h : DkAt code pc [83]) : decode code pc = .ok (.aastore, 1) := dk_of ((dk_bind (dk_u1 (h 0 _ rfl))).trans rfl)
theorem dk_84 {code : ByteArray} {pc : Nat} (h : DkAt code pc [84]) : decode code pc = .ok (.bastore, 1) := dk_of ((dk_bind (dk_u1 (h 0 _ rfl))).trans rfl)
theorem dk_87 {code : ByteArray} {pc : Nat} (h : DkAt code pc [87]) : decode code pc = .ok (.pop, 1) := dk_of ((dk_bind (dk_u1 (h 0 _ rfl))).trans rfl)
theorem dk_89 {code : ByteArray} {pc : Nat} (h : DkAt code pc [89]) : decode code pc = .ok (.dup, 1) := dk_of ((dk_bind (dk_u1 (h 0 _ rfl))).trans rfl)
theorem dk_90 {code : ByteArray} {pc : Nat} (h : DkAt code pc [90]) : decode code pc = .ok (.dup_x1, 1) := dk_of ((dk_bind (dk_u1 (h 0 _ rfl))).trans rfl)
theorem dk_92 {code : ByteArray} {pc : Nat} (h : DkAt code pc [92]) : decode code pc = .ok (.dup2, 1) := dk_of ((dk_bind (dk_u1 (h 0 _ rfl))).trans rfl)
theorem dk_96 {code : ByteArray} {pc : Nat} (h : DkAt code pc [96]) : decode code pc = .ok (.iadd, 1) := dk_of ((dk_bind (dk_u1 (h 0 _ rfl))).trans rfl)
theorem dk_100 {code : ByteArray} {pc : Nat} (h : DkAt code pc [100]) : decode code pc = .ok (.isub, 1) := dk_of ((dk_bind (dk_u1 (h 0 _ rfl))).trans rfl)
theorem dk_104 {code : ByteArray} {pc : Nat} (h : DkAt code pc [104]) : decode code pc = .ok (.imul, 1) := dk_of ((dk_bind (dk_u1 (h 0 _ rfl))).trans rfl)
theorem dk_120 {code : ByteArray} {pc : Nat} (h : DkAt code pc [120]) : decode code pc = .ok (.ishl, 1) := dk_of ((dk_bind (dk_u1 (h 0 _ rfl))).trans rfl)
theorem dk_122 {code : ByteArray} {pc : Nat} (h : DkAt code pc [122]) : decode code pc = .ok (.ishr, 1) := dk_of ((dk_bind (dk_u1 (h 0 _ rfl))).trans rfl)
theorem dk_126 {code : ByteArray} {pc : Nat} (h : DkAt code pc [126]) : decode code pc = .ok (.iand, 1) := dk_of ((dk_bind (dk_u1 (h 0 _ rfl))).trans rfl)
theorem dk_128 {code : ByteArray} {pc : Nat} (h : DkAt code pc [128]) : decode code pc = .ok (.ior, 1) := dk_of ((dk_bind (dk_u1 (h 0 _ rfl))).trans rfl)
theorem dk_132 {code : ByteArray} {pc : Nat} (a b : UInt8) (h : DkAt code pc [132, a, b]) : decode code pc = .ok (.iinc a.toNat (Reader.signed 8 b.toNat), 3) := dk_of ((dk_bind (dk_u1 (h 0 _ rfl))).trans ((dk_bind (dk_u1 (h 1 _ rfl))).trans ((dk_bind (dk_map (dk_u1 (h 2 _ rfl)))).trans rfl)))
theorem dk_153 {code : ByteArray} {pc : Nat} (a b : UInt8) (h : DkAt code pc [153, a, b]) : decode code pc = .ok (.ifCond .eq (Reader.signed 16 (a.toNat * 256 + b.toNat)), 3) := dk_of ((dk_bind (dk_u1 (h 0 _ rfl))).trans ((dk_bind (dk_map (dk_u2 (h 1 _ rfl) (h 2 _ rfl)))).trans rfl))
theorem dk_154 {code : ByteArray} {pc : Nat} (a b : UInt8) (h : DkAt code pc [154, a, b]) : decode code pc = .ok (.ifCond .ne (Reader.signed 16 (a.toNat * 256 + b.toNat)), 3) := dk_of ((dk_bind (dk_u1 (h 0 _ rfl))).trans ((dk_bind (dk_map (dk_u2 (h 1 _ rfl) (h 2 _ rfl)))).trans rfl))
theorem dk_155 {code : ByteArray} {pc : Nat} (a b : UInt8) (h : DkAt code pc [155, a, b]) : decode code pc = .ok (.ifCond .lt (Reader.signed 16 (a.toNat * 256 + b.toNat)), 3) := dk_of ((dk_bind (dk_u1 (h 0 _ rfl))).trans ((dk_bind (dk_map (dk_u2 (h 1 _ rfl) (h 2 _ rfl)))).trans rfl))
theorem dk_156 {code : ByteArray} {pc : Nat} (a b : UInt8) (h : DkAt code pc [156, a, b]) : decode code pc = .ok (.ifCond .ge (Reader.signed 16 (a.toNat * 256 + b.toNat)), 3) := dk_of ((dk_bind (dk_u1 (h 0 _ rfl))).trans ((dk_bind (dk_map (dk_u2 (h 1 _ rfl) (h 2 _ rfl)))).trans rfl))
theorem dk_157 {code : ByteArray} {pc : Nat} (a b : UInt8) (h : DkAt code pc [157, a, b]) : decode code pc = .ok (.ifCond .gt (Reader.signed 16 (a.toNat * 256 + b.toNat)), 3) := dk_of ((dk_bind (dk_u1 (h 0 _ rfl))).trans ((dk_bind (dk_map (dk_u2 (h 1 _ rfl) (h 2 _ rfl)))).trans rfl))
theorem dk_158 {code : ByteArray} {pc : Nat} (a b : UInt8) (h : DkAt code pc [158, a, b]) : decode code pc = .ok (.ifCond .le (Reader.signed 16 (a.toNat * 256 + b.toNat)), 3) := dk_of ((dk_bind (dk_u1 (h 0 _ rfl))).trans ((dk_bind (dk_map (dk_u2 (h 1 _ rfl) (h 2 _ rfl)))).trans rfl))
theorem dk_159 {code : ByteArray} {pc : Nat} (a b : UInt8) (h : DkAt code pc [159, a, b]) : decode code pc = .ok (.if_icmp .eq (Reader.signed 16 (a.toNat * 256 + b.toNat)), 3) := dk_of ((dk_bind (dk_u1 (h 0 _ rfl))).trans ((dk_bind (dk_map (dk_u2 (h 1 _ rfl) (h 2 _ rfl)))).trans rfl))
theorem dk_160 {code : ByteArray} {pc : Nat} (a b : UInt8) (h : DkAt code pc [160, a, b]) : decode code pc = .ok (.if_icmp .ne (Reader.signed 16 (a.toNat * 256 + b.toNat)), 3) := dk_of ((dk_bind (dk_u1 (h 0 _ rfl))).trans ((dk_bind (dk_map (dk_u2 (h 1 _ rfl) (h 2 _ rfl)))).trans rfl))
theorem dk_161 {code : ByteArray} {pc : Nat} (a b : UInt8) (h : DkAt code pc [161, a, b]) : decode code pc = .ok (.if_icmp .lt (Reader.signed 16 (a.toNat * 256 + b.toNat)), 3) := dk_of ((dk_bind (dk_u1 (h 0 _ rfl))).trans ((dk_bind (dk_map (dk_u2 (h 1 _ rfl) (h 2 _ rfl)))).trans rfl))
theorem dk_162 {code : ByteArray} {pc : Nat} (a b : UInt8) (h : DkAt code pc [162, a, b]) : decode code pc = .ok (.if_icmp .ge (Reader.signed 16 (a.toNat * 256 + b.toNat)), 3) := dk_of ((dk_bind (dk_u1 (h 0 _ rfl))).trans ((dk_bind (dk_map (dk_u2 (h 1 _ rfl) (h 2 _ rfl)))).trans rfl))
theorem dk_163 {code : ByteArray} {pc : Nat} (a b : UInt8) (h : DkAt code pc [163, a, b]) : decode code pc = .ok (.if_icmp .gt (Reader.signed 16 (a.toNat * 256 + b.toNat)), 3) := dk_of ((dk_bind (dk_u1 (h 0 _ rfl))).trans ((dk_bind (dk_map (dk_u2 (h 1 _ rfl) (h 2 _ rfl)))).trans rfl))
theorem dk_164 {code : ByteArray} {pc : Nat} (a b : UInt8) (h : DkAt code pc [164, a, b]) : decode code pc = .ok (.if_icmp .le (Reader.signed 16 (a.toNat * 256 + b.toNat)), 3) := dk_of ((dk_bind (dk_u1 (h 0 _ rfl))).trans ((dk_bind (dk_map (dk_u2 (h 1 _ rfl) (h 2 _ rfl)))).trans rfl))
theorem dk_165 {code : ByteArray} {pc : Nat} (a b : UInt8) (h : DkAt code pc [165, a, b]) : decode code pc = .ok (.if_acmp .eq (Reader.signed 16 (a.toNat * 256 + b.toNat)), 3) := dk_of ((dk_bind (dk_u1 (h 0 _ rfl))).trans ((dk_bind (dk_map (dk_u2 (h 1 _ rfl) (h 2 _ rfl)))).trans rfl))
theorem dk_166 {code : ByteArray} {pc : Nat} (a b : UInt8) (h : DkAt code pc [166, a, b]) : decode code pc = .ok (.if_acmp .ne (Reader.signed 16 (a.toNat * 256 + b.toNat)), 3) := dk_of ((dk_bind (dk_u1 (h 0 _ rfl))).trans ((dk_bind (dk_map (dk_u2 (h 1 _ rfl) (h 2 _ rfl)))).trans rfl))
theorem dk_167 {code : ByteArray} {pc : Nat} (a b : UInt8) (h : DkAt code pc [167, a, b]) : decode code pc = .ok (.goto (Reader.signed 16 (a.toNat * 256 + b.toNat)), 3) := dk_of ((dk_bind (dk_u1 (h 0 _ rfl))).trans ((dk_bind (dk_map (dk_u2 (h 1 _ rfl) (h 2 _ rfl)))).trans rfl))
theorem dk_172 {code : ByteArray} {pc : Nat} (h : DkAt code pc [172]) : decode code pc = .ok (.ireturn, 1) := dk_of ((dk_bind (dk_u1 (h 0 _ rfl))).trans rfl)
theorem dk_176 {code : ByteArray} {pc : Nat} (h : DkAt code pc [176]) : decode code pc = .ok (.areturn, 1) := dk_of ((dk_bind (dk_u1 (h 0 _ rfl))).trans rfl)
theorem dk_177 {code : ByteArray} {pc : Nat} (h : DkAt code pc [177]) : decode code pc = .ok (.return_, 1) := dk_of ((dk_bind (dk_u1 (h 0 _ rfl))).trans rfl)
theorem dk_178 {code : ByteArray} {pc : Nat} (a b : UInt8) (h : DkAt code pc [178, a, b]) : decode code pc = .ok (.getstatic (a.toNat * 256 + b.toNat), 3) := dk_of ((dk_bind (dk_u1 (h 0 _ rfl))).trans ((dk_bind (dk_u2 (h 1 _ rfl) (h 2 _ rfl))).trans rfl))
theorem dk_180 {code : ByteArray} {pc : Nat} (a b : UInt8) (h : DkAt code pc [180, a, b]) : decode code pc = .ok (.getfield (a.toNat * 256 + b.toNat), 3) := dk_of ((dk_bind (dk_u1 (h 0 _ rfl))).trans ((dk_bind (dk_u2 (h 1 _ rfl) (h 2 _ rfl))).trans rfl))
theorem dk_181 {code : ByteArray} {pc : Nat} (a b : UInt8) (h : DkAt code pc [181, a, b]) : decode code pc = .ok (.putfield (a.toNat * 256 + b.toNat), 3) := dk_of ((dk_bind (dk_u1 (h 0 _ rfl))).trans ((dk_bind (dk_u2 (h 1 _ rfl) (h 2 _ rfl))).trans rfl))
theorem dk_182 {code : ByteArray} {pc : Nat} (a b : UInt8) (h : DkAt code pc [182, a, b]) : decode code pc = .ok (.invokevirtual (a.toNat * 256 + b.toNat), 3) := dk_of ((dk_bind (dk_u1 (h 0 _ rfl))).trans ((dk_bind (dk_u2 (h 1 _ rfl) (h 2 _ rfl))).trans rfl))
theorem dk_183 {code : ByteArray} {pc : Nat} (a b : UInt8) (h : DkAt code pc [183, a, b]) : decode code pc = .ok (.invokespecial (a.toNat * 256 + b.toNat), 3) := dk_of ((dk_bind (dk_u1 (h 0 _ rfl))).trans ((dk_bind (dk_u2 (h 1 _ rfl) (h 2 _ rfl))).trans rfl))
theorem dk_184 {code : ByteArray} {pc : Nat} (a b : UInt8) (h : DkAt code pc [184, a, b]) : decode code pc = .ok (.invokestatic (a.toNat * 256 + b.toNat), 3) := dk_of ((dk_bind (dk_u1 (h 0 _ rfl))).trans ((dk_bind (dk_u2 (h 1 _ rfl) (h 2 _ rfl))).trans rfl))
theorem dk_187 {code : ByteArray} {pc : Nat} (a b : UInt8) (h : DkAt code pc [187, a, b]) : decode code pc = .ok (.new (a.toNat * 256 + b.toNat), 3) := dk_of ((dk_bind (dk_u1 (h 0 _ rfl))).trans ((dk_bind (dk_u2 (h 1 _ rfl) (h 2 _ rfl))).trans rfl))
theorem dk_188_4 {code : ByteArray} {pc : Nat} (h : DkAt code pc [188, 4]) : decode code pc = .ok (.newarray .boolean, 2) := dk_of ((dk_bind (dk_u1 (h 0 _ rfl))).trans ((dk_bind (dk_u1 (h 1 _ rfl))).trans rfl))
theorem dk_188_10 {code : ByteArray} {pc : Nat} (h : DkAt code pc [188, 10]) : decode code pc = .ok (.newarray .int, 2) := dk_of ((dk_bind (dk_u1 (h 0 _ rfl))).trans ((dk_bind (dk_u1 (h 1 _ rfl))).trans rfl))
theorem dk_189 {code : ByteArray} {pc : Nat} (a b : UInt8) (h : DkAt code pc [189, a, b]) : decode code pc = .ok (.anewarray (a.toNat * 256 + b.toNat), 3) := dk_of ((dk_bind (dk_u1 (h 0 _ rfl))).trans ((dk_bind (dk_u2 (h 1 _ rfl) (h 2 _ rfl))).trans rfl))
theorem dk_190 {code : ByteArray} {pc : Nat} (h : DkAt code pc [190]) : decode code pc = .ok (.arraylength, 1) := dk_of ((dk_bind (dk_u1 (h 0 _ rfl))).trans rfl)
theorem dk_191 {code : ByteArray} {pc : Nat} (h : DkAt code pc [191]) : decode code pc = .ok (.athrow, 1) := dk_of ((dk_bind (dk_u1 (h 0 _ rfl))).trans rfl)
theorem dk_192 {code : ByteArray} {pc : Nat} (a b : UInt8) (h : DkAt code pc [192, a, b]) : decode code pc = .ok (.checkcast (a.toNat * 256 + b.toNat), 3) := dk_of ((dk_bind (dk_u1 (h 0 _ rfl))).trans ((dk_bind (dk_u2 (h 1 _ rfl) (h 2 _ rfl))).trans rfl))
theorem dk_193 {code : ByteArray} {pc : Nat} (a b : UInt8) (h : DkAt code pc [193, a, b]) : decode code pc = .ok (.instanceof (a.toNat * 256 + b.toNat), 3) := dk_of ((dk_bind (dk_u1 (h 0 _ rfl))).trans ((dk_bind (dk_u2 (h 1 _ rfl) (h 2 _ rfl))).trans rfl))
theorem dk_198 {code : ByteArray} {pc : Nat} (a b : UInt8) (h : DkAt code pc [198, a, b]) : decode code pc = .ok (.ifnull (Reader.signed 16 (a.toNat * 256 + b.toNat)), 3) := dk_of ((dk_bind (dk_u1 (h 0 _ rfl))).trans ((dk_bind (dk_map (dk_u2 (h 1 _ rfl) (h 2 _ rfl)))).trans rfl))
theorem dk_199 {code : ByteArray} {pc : Nat} (a b : UInt8) (h : DkAt code pc [199, a, b]) : decode code pc = .ok (.ifnonnull (Reader.signed 16 (a.toNat * 256 + b.toNat)), 3) := dk_of ((dk_bind (dk_u1 (h 0 _ rfl))).trans ((dk_bind (dk_map (dk_u2 (h 1 _ rfl) (h 2 _ rfl)))).trans rfl))
theorem q58 : (Jvm.Cond.initialized "StoryColumnsLaw") ∈ lw_all := lw_g (lw_at lw_m1 0 rfl) rfl
set_option maxRecDepth 100000
theorem q80 : (Jvm.Cond.classLink "StoryColumnsLaw" (7 : Nat) "StoryColumns") ∈ lw_all := lw_g (lw_at lw_m1 22 rfl) rfl
theorem q82 : (Jvm.Cond.methodLink "StoryColumnsLaw" (9 : Nat) ({ cls := "StoryColumns", name := "<init>", desc := "()V" } : Jvm.MethodName)) ∈ lw_all := lw_g (lw_at lw_m1 24 rfl) rfl
theorem q141 : (Jvm.Cond.methodLink "StoryColumnsLaw" (13 : Nat) ({ cls := "StoryColumns", name := "block", desc := "(IIIIII)I" } : Jvm.MethodName)) ∈ lw_all := lw_g (lw_at lw_m1 83 rfl) rfl
theorem q514 : (Jvm.Cond.methodLink "StoryColumnsLaw" (18 : Nat) ({ cls := "StoryColumns", name := "words", desc := "(II)I" } : Jvm.MethodName)) ∈ lw_all := lw_g (lw_at lw_m2 216 rfl) rfl
theorem q530 : (Jvm.Cond.methodLink "StoryColumnsLaw" (23 : Nat) ({ cls := "StoryColumns", name := "line", desc := "(IIIII)I" } : Jvm.MethodName)) ∈ lw_all := lw_g (lw_at lw_m2 232 rfl) rfl
theorem q566 : (Jvm.Cond.methodLink "StoryColumnsLaw" (28 : Nat) ({ cls := "StoryColumns", name := "back", desc := "()I" } : Jvm.MethodName)) ∈ lw_all := lw_g (lw_at lw_m3 28 rfl) rfl
theorem q593 : (Jvm.Cond.methodLink "StoryColumnsLaw" (33 : Nat) ({ cls := "StoryColumns", name := "erase", desc := "()I" } : Jvm.MethodName)) ∈ lw_all := lw_g (lw_at lw_m3 55 rfl) rfl
theorem q597 : (Jvm.Cond.methodLink "StoryColumnsLaw" (37 : Nat) ({ cls := "StoryColumns", name := "clear", desc := "()I" } : Jvm.MethodName)) ∈ lw_all := lw_g (lw_at lw_m3 59 rfl) rfl
theorem q610 : (Jvm.Cond.methodLink "StoryColumnsLaw" (41 : Nat) ({ cls := "StoryColumns", name := "turn", desc := "()I" } : Jvm.MethodName)) ∈ lw_all := lw_g (lw_at lw_m3 72 rfl) rfl
theorem q614 : (Jvm.Cond.methodLink "StoryColumnsLaw" (45 : Nat) ({ cls := "StoryColumns", name := "ofBlock", desc := "(II)I" } : Jvm.MethodName)) ∈ lw_all := lw_g (lw_at lw_m3 76 rfl) rfl
theorem q618 : (Jvm.Cond.methodLink "StoryColumnsLaw" (49 : Nat) ({ cls := "StoryColumns", name := "ofLine", desc := "(II)I" } : Jvm.MethodName)) ∈ lw_all := lw_g (lw_at lw_m3 80 rfl) rfl
theorem q622 : (Jvm.Cond.methodLink "StoryColumnsLaw" (53 : Nat) ({ cls := "StoryColumns", name := "at", desc := "(III)I" } : Jvm.MethodName)) ∈ lw_all := lw_g (lw_at lw_m3 84 rfl) rfl
theorem q639 : (Jvm.Cond.methodLink "StoryColumnsLaw" (58 : Nat) ({ cls := "StoryColumns", name := "reach", desc := "(II)I" } : Jvm.MethodName)) ∈ lw_all := lw_g (lw_at lw_m3 101 rfl) rfl
theorem q667 : (Jvm.Cond.methodLink "StoryColumnsLaw" (62 : Nat) ({ cls := "StoryColumns", name := "under", desc := "(I)I" } : Jvm.MethodName)) ∈ lw_all := lw_g (lw_at lw_m3 129 rfl) rfl
theorem q835 : (Jvm.Cond.methodLink "StoryColumnsLaw" (67 : Nat) ({ cls := "StoryColumns", name := "story", desc := "(I)I" } : Jvm.MethodName)) ∈ lw_all := lw_g (lw_at lw_m4 57 rfl) rfl
theorem q839 : (Jvm.Cond.methodLink "StoryColumnsLaw" (71 : Nat) ({ cls := "StoryColumns", name := "takenBy", desc := "(I)I" } : Jvm.MethodName)) ∈ lw_all := lw_g (lw_at lw_m4 61 rfl) rfl
theorem q843 : (Jvm.Cond.methodLink "StoryColumnsLaw" (75 : Nat) ({ cls := "StoryColumns", name := "ofStory", desc := "(II)I" } : Jvm.MethodName)) ∈ lw_all := lw_g (lw_at lw_m4 65 rfl) rfl
theorem q866 : (Jvm.Cond.methodLink "StoryColumnsLaw" (79 : Nat) ({ cls := "StoryColumns", name := "text", desc := "(II)I" } : Jvm.MethodName)) ∈ lw_all := lw_g (lw_at lw_m4 88 rfl) rfl
theorem q870 : (Jvm.Cond.methodLink "StoryColumnsLaw" (83 : Nat) ({ cls := "StoryColumns", name := "mark", desc := "(IIII)I" } : Jvm.MethodName)) ∈ lw_all := lw_g (lw_at lw_m4 92 rfl) rfl
theorem q891 : (Jvm.Cond.methodLink "StoryColumnsLaw" (88 : Nat) ({ cls := "StoryColumns", name := "unmark", desc := "(II)I" } : Jvm.MethodName)) ∈ lw_all := lw_g (lw_at lw_m4 113 rfl) rfl
theorem q895 : (Jvm.Cond.methodLink "StoryColumnsLaw" (92 : Nat) ({ cls := "StoryColumns", name := "ofMark", desc := "(III)I" } : Jvm.MethodName)) ∈ lw_all := lw_g (lw_at lw_m4 117 rfl) rfl
theorem q899 : (Jvm.Cond.methodLink "StoryColumnsLaw" (96 : Nat) ({ cls := "StoryColumns", name := "ofArticle", desc := "(II)I" } : Jvm.MethodName)) ∈ lw_all := lw_g (lw_at lw_m4 121 rfl) rfl
theorem q1012 : (Jvm.Cond.methodLink "StoryColumnsLaw" (100 : Nat) ({ cls := "StoryColumns", name := "read", desc := "(II)I" } : Jvm.MethodName)) ∈ lw_all := lw_g (lw_at lw_m4 234 rfl) rfl
theorem q1016 : (Jvm.Cond.methodLink "StoryColumnsLaw" (104 : Nat) ({ cls := "StoryColumns", name := "many", desc := "(I)I" } : Jvm.MethodName)) ∈ lw_all := lw_g (lw_at lw_m4 238 rfl) rfl
theorem q1032 : (Jvm.Cond.classLink "StoryColumnsLaw" (10 : Nat) "StoryColumnsModel") ∈ lw_all := lw_g (lw_at lw_m5 14 rfl) rfl
theorem q1034 : (Jvm.Cond.methodLink "StoryColumnsLaw" (12 : Nat) ({ cls := "StoryColumnsModel", name := "<init>", desc := "()V" } : Jvm.MethodName)) ∈ lw_all := lw_g (lw_at lw_m5 16 rfl) rfl
theorem q1143 : (Jvm.Cond.methodLink "StoryColumnsLaw" (17 : Nat) ({ cls := "StoryColumnsModel", name := "block", desc := "(IIIIII)I" } : Jvm.MethodName)) ∈ lw_all := lw_g (lw_at lw_m5 125 rfl) rfl
theorem q1154 : (Jvm.Cond.methodLink "StoryColumnsLaw" (22 : Nat) ({ cls := "StoryColumnsModel", name := "words", desc := "(II)I" } : Jvm.MethodName)) ∈ lw_all := lw_g (lw_at lw_m5 136 rfl) rfl
theorem q1162 : (Jvm.Cond.methodLink "StoryColumnsLaw" (27 : Nat) ({ cls := "StoryColumnsModel", name := "line", desc := "(IIIII)I" } : Jvm.MethodName)) ∈ lw_all := lw_g (lw_at lw_m5 144 rfl) rfl
theorem q1166 : (Jvm.Cond.methodLink "StoryColumnsLaw" (32 : Nat) ({ cls := "StoryColumnsModel", name := "back", desc := "()I" } : Jvm.MethodName)) ∈ lw_all := lw_g (lw_at lw_m5 148 rfl) rfl
theorem q1170 : (Jvm.Cond.methodLink "StoryColumnsLaw" (36 : Nat) ({ cls := "StoryColumnsModel", name := "erase", desc := "()I" } : Jvm.MethodName)) ∈ lw_all := lw_g (lw_at lw_m5 152 rfl) rfl
theorem q1174 : (Jvm.Cond.methodLink "StoryColumnsLaw" (40 : Nat) ({ cls := "StoryColumnsModel", name := "clear", desc := "()I" } : Jvm.MethodName)) ∈ lw_all := lw_g (lw_at lw_m5 156 rfl) rfl
theorem q1178 : (Jvm.Cond.methodLink "StoryColumnsLaw" (44 : Nat) ({ cls := "StoryColumnsModel", name := "turn", desc := "()I" } : Jvm.MethodName)) ∈ lw_all := lw_g (lw_at lw_m5 160 rfl) rfl
theorem q1182 : (Jvm.Cond.methodLink "StoryColumnsLaw" (48 : Nat) ({ cls := "StoryColumnsModel", name := "ofBlock", desc := "(II)I" } : Jvm.MethodName)) ∈ lw_all := lw_g (lw_at lw_m5 164 rfl) rfl
theorem q1186 : (Jvm.Cond.methodLink "StoryColumnsLaw" (52 : Nat) ({ cls := "StoryColumnsModel", name := "ofLine", desc := "(II)I" } : Jvm.MethodName)) ∈ lw_all := lw_g (lw_at lw_m5 168 rfl) rfl
theorem q1190 : (Jvm.Cond.methodLink "StoryColumnsLaw" (57 : Nat) ({ cls := "StoryColumnsModel", name := "at", desc := "(III)I" } : Jvm.MethodName)) ∈ lw_all := lw_g (lw_at lw_m5 172 rfl) rfl
theorem q1194 : (Jvm.Cond.methodLink "StoryColumnsLaw" (61 : Nat) ({ cls := "StoryColumnsModel", name := "reach", desc := "(II)I" } : Jvm.MethodName)) ∈ lw_all := lw_g (lw_at lw_m5 176 rfl) rfl
theorem q1214 : (Jvm.Cond.methodLink "StoryColumnsLaw" (66 : Nat) ({ cls := "StoryColumnsModel", name := "under", desc := "(I)I" } : Jvm.MethodName)) ∈ lw_all := lw_g (lw_at lw_m5 196 rfl) rfl
theorem q1222 : (Jvm.Cond.methodLink "StoryColumnsLaw" (70 : Nat) ({ cls := "StoryColumnsModel", name := "story", desc := "(I)I" } : Jvm.MethodName)) ∈ lw_all := lw_g (lw_at lw_m5 204 rfl) rfl
theorem q1254 : (Jvm.Cond.methodLink "StoryColumnsLaw" (74 : Nat) ({ cls := "StoryColumnsModel", name := "takenBy", desc := "(I)I" } : Jvm.MethodName)) ∈ lw_all := lw_g (lw_at lw_m5 236 rfl) rfl
theorem q1258 : (Jvm.Cond.methodLink "StoryColumnsLaw" (87 : Nat) ({ cls := "StoryColumnsModel", name := "mark", desc := "(IIII)I" } : Jvm.MethodName)) ∈ lw_all := lw_g (lw_at lw_m6 0 rfl) rfl
theorem q1262 : (Jvm.Cond.methodLink "StoryColumnsLaw" (91 : Nat) ({ cls := "StoryColumnsModel", name := "unmark", desc := "(II)I" } : Jvm.MethodName)) ∈ lw_all := lw_g (lw_at lw_m6 4 rfl) rfl
theorem q1266 : (Jvm.Cond.methodLink "StoryColumnsLaw" (95 : Nat) ({ cls := "StoryColumnsModel", name := "ofMark", desc := "(III)I" } : Jvm.MethodName)) ∈ lw_all := lw_g (lw_at lw_m6 8 rfl) rfl
theorem q1270 : (Jvm.Cond.methodLink "StoryColumnsLaw" (78 : Nat) ({ cls := "StoryColumnsModel", name := "ofStory", desc := "(II)I" } : Jvm.MethodName)) ∈ lw_all := lw_g (lw_at lw_m6 12 rfl) rfl
theorem q1306 : (Jvm.Cond.methodLink "StoryColumnsLaw" (82 : Nat) ({ cls := "StoryColumnsModel", name := "text", desc := "(II)I" } : Jvm.MethodName)) ∈ lw_all := lw_g (lw_at lw_m6 48 rfl) rfl
theorem q1310 : (Jvm.Cond.methodLink "StoryColumnsLaw" (99 : Nat) ({ cls := "StoryColumnsModel", name := "ofArticle", desc := "(II)I" } : Jvm.MethodName)) ∈ lw_all := lw_g (lw_at lw_m6 52 rfl) rfl
theorem q1326 : (Jvm.Cond.methodLink "StoryColumnsLaw" (103 : Nat) ({ cls := "StoryColumnsModel", name := "read", desc := "(II)I" } : Jvm.MethodName)) ∈ lw_all := lw_g (lw_at lw_m6 68 rfl) rfl
theorem q1330 : (Jvm.Cond.methodLink "StoryColumnsLaw" (107 : Nat) ({ cls := "StoryColumnsModel", name := "many", desc := "(I)I" } : Jvm.MethodName)) ∈ lw_all := lw_g (lw_at lw_m6 72 rfl) rfl
theorem q1378 : (Jvm.Cond.castable "[I" "java/lang/Object") ∈ lw_tbl := lw_at lw_m6 120 rfl
set_option maxRecDepth 100000
theorem q1377 : (Jvm.Cond.castable "[LStoryColumns$Mark;" "java/lang/Object") ∈ lw_tbl := lw_at lw_m6 119 rfl
set_option maxRecDepth 100000
theorem q1373 : (Jvm.Cond.sameMethod "[Ljava/lang/Object;" "java/lang/Object" "getClass" "()Ljava/lang/Class;") ∈ lw_all := lw_g (lw_at lw_m6 115 rfl) rfl
set_option maxRecDepth 100000
theorem q1374 : (Jvm.Cond.selects "[Ljava/lang/Object;" ({ cls := "java/lang/Object", name := "getClass", desc := "()Ljava/lang/Class;" } : Jvm.MethodName) ({ cls := "java/lang/Object", name := "getClass", desc := "()Ljava/lang/Class;" } : Jvm.MethodName)) ∈ lw_all := lw_g (lw_at lw_m6 116 rfl) rfl
theorem q1376 : (Jvm.Cond.castable "[Ljava/lang/Object;" "java/lang/Object") ∈ lw_tbl := lw_at lw_m6 118 rfl
theorem q1379 : (Jvm.Cond.castable "[Z" "java/lang/Object") ∈ lw_tbl := lw_at lw_m6 121 rfl
set_option maxRecDepth 100000
theorem q951 : (Jvm.Cond.interfaceMethod "java/lang/Iterable" "java/lang/Iterable" "iterator" "()Ljava/util/Iterator;") ∈ lw_tbl := lw_at lw_m4 173 rfl
set_option maxRecDepth 100000
theorem q952 : (Jvm.Cond.declares ({ cls := "java/lang/Iterable", name := "iterator", desc := "()Ljava/util/Iterator;" } : Jvm.MethodName)) ∈ lw_tbl := lw_at lw_m4 174 rfl
theorem q72 : (Jvm.Cond.initialized "java/lang/System") ∈ lw_all := lw_g (lw_at lw_m1 14 rfl) rfl
set_option maxRecDepth 100000
theorem q507 : (Jvm.Cond.static ({ cls := "java/lang/System", name := "arraycopy", desc := "(Ljava/lang/Object;ILjava/lang/Object;II)V" } : Jvm.MethodName)) ∈ lw_all := lw_g (lw_at lw_m2 209 rfl) rfl
theorem q508 : (Jvm.Cond.native ({ cls := "java/lang/System", name := "arraycopy", desc := "(Ljava/lang/Object;ILjava/lang/Object;II)V" } : Jvm.MethodName)) ∈ lw_all := lw_g (lw_at lw_m2 210 rfl) rfl
theorem q299 : (Jvm.Cond.interfaceMethod "java/util/Iterator" "java/util/Iterator" "hasNext" "()Z") ∈ lw_tbl := lw_at lw_m2 1 rfl
set_option maxRecDepth 100000
theorem q300 : (Jvm.Cond.declares ({ cls := "java/util/Iterator", name := "hasNext", desc := "()Z" } : Jvm.MethodName)) ∈ lw_tbl := lw_at lw_m2 2 rfl
theorem q330 : (Jvm.Cond.interfaceMethod "java/util/Iterator" "java/util/Iterator" "next" "()Ljava/lang/Object;") ∈ lw_tbl := lw_at lw_m2 32 rfl
theorem q331 : (Jvm.Cond.declares ({ cls := "java/util/Iterator", name := "next", desc := "()Ljava/lang/Object;" } : Jvm.MethodName)) ∈ lw_tbl := lw_at lw_m2 33 rfl
theorem q153 : (Jvm.Cond.interfaceMethod "java/util/List" "java/util/List" "size" "()I") ∈ lw_tbl := lw_at lw_m1 95 rfl
set_option maxRecDepth 100000
theorem q154 : (Jvm.Cond.declares ({ cls := "java/util/List", name := "size", desc := "()I" } : Jvm.MethodName)) ∈ lw_tbl := lw_at lw_m1 96 rfl
theorem q271 : (Jvm.Cond.interfaceMethod "java/util/List" "java/util/List" "iterator" "()Ljava/util/Iterator;") ∈ lw_tbl := lw_at lw_m1 213 rfl
theorem q272 : (Jvm.Cond.declares ({ cls := "java/util/List", name := "iterator", desc := "()Ljava/util/Iterator;" } : Jvm.MethodName)) ∈ lw_tbl := lw_at lw_m1 214 rfl
theorem q352 : (Jvm.Cond.interfaceMethod "java/util/List" "java/util/List" "get" "(I)Ljava/lang/Object;") ∈ lw_tbl := lw_at lw_m2 54 rfl
theorem q353 : (Jvm.Cond.declares ({ cls := "java/util/List", name := "get", desc := "(I)Ljava/lang/Object;" } : Jvm.MethodName)) ∈ lw_tbl := lw_at lw_m2 55 rfl
theorem q447 : (Jvm.Cond.interfaceMethod "java/util/List" "java/util/List" "add" "(Ljava/lang/Object;)Z") ∈ lw_tbl := lw_at lw_m2 149 rfl
theorem q448 : (Jvm.Cond.declares ({ cls := "java/util/List", name := "add", desc := "(Ljava/lang/Object;)Z" } : Jvm.MethodName)) ∈ lw_tbl := lw_at lw_m2 150 rfl
theorem q572 : (Jvm.Cond.interfaceMethod "java/util/List" "java/util/List" "isEmpty" "()Z") ∈ lw_tbl := lw_at lw_m3 34 rfl
theorem q573 : (Jvm.Cond.declares ({ cls := "java/util/List", name := "isEmpty", desc := "()Z" } : Jvm.MethodName)) ∈ lw_tbl := lw_at lw_m3 35 rfl
theorem q581 : (Jvm.Cond.interfaceMethod "java/util/List" "java/util/List" "remove" "(I)Ljava/lang/Object;") ∈ lw_tbl := lw_at lw_m3 43 rfl
theorem q582 : (Jvm.Cond.declares ({ cls := "java/util/List", name := "remove", desc := "(I)Ljava/lang/Object;" } : Jvm.MethodName)) ∈ lw_tbl := lw_at lw_m3 44 rfl
theorem q603 : (Jvm.Cond.interfaceMethod "java/util/List" "java/util/List" "clear" "()V") ∈ lw_tbl := lw_at lw_m3 65 rfl
theorem q604 : (Jvm.Cond.declares ({ cls := "java/util/List", name := "clear", desc := "()V" } : Jvm.MethodName)) ∈ lw_tbl := lw_at lw_m3 66 rfl
theorem q747 : (Jvm.Cond.interfaceMethod "java/util/List" "java/util/List" "add" "(ILjava/lang/Object;)V") ∈ lw_tbl := lw_at lw_m3 209 rfl
theorem q748 : (Jvm.Cond.declares ({ cls := "java/util/List", name := "add", desc := "(ILjava/lang/Object;)V" } : Jvm.MethodName)) ∈ lw_tbl := lw_at lw_m3 210 rfl
theorem q101 : (Jvm.Cond.arrayOver (Jvm.ClassFile.FieldType.object "java/lang/Object")) ∈ lw_tbl := lw_at lw_m1 43 rfl
set_option maxRecDepth 100000
theorem q171 : (Jvm.Cond.arrayOver (Jvm.ClassFile.FieldType.object "StoryColumns$Mark")) ∈ lw_tbl := lw_at lw_m1 113 rfl
theorem q1141 : (Jvm.Cond.arrayClass Jvm.ClassFile.FieldType.int) ∈ lw_all := lw_g (lw_at lw_m5 123 rfl) rfl
theorem q1142 : (Jvm.Cond.arrayClass Jvm.ClassFile.FieldType.boolean) ∈ lw_all := lw_g (lw_at lw_m5 124 rfl) rfl
/-! java/util/AbstractCollection -/
set_option maxRecDepth 100000
def RJ0 : String := "java/util/AbstractCollection"
abbrev cJ0_init : ByteArray := prog_20_method_1_code
def yJ0_init : MethodName := ⟨RJ0, "<init>", "()V"⟩
theorem dJ0_init_0 : decode cJ0_init 0 = .ok (.aload_n 0, 1) := by decide +kernel
theorem dJ0_init_1 : decode cJ0_init 1 = .ok (.invokespecial 1, 3) := by decide +kernel
theorem dJ0_init_4 : decode cJ0_init 4 = .ok (.return_, 1) := by decide +kernel
theorem q60 : (Jvm.Cond.initialized "java/util/AbstractCollection") ∈ lw_all := lw_g (lw_at lw_m1 2 rfl) rfl
theorem q97 : (Jvm.Cond.instanceMethod ({ cls := "java/util/AbstractCollection", name := "<init>", desc := "()V" } : Jvm.MethodName)) ∈ lw_all := lw_g (lw_at lw_m1 39 rfl) rfl
theorem q98 : (Jvm.Cond.code ({ cls := "java/util/AbstractCollection", name := "<init>", desc := "()V" } : Jvm.MethodName) prog_20_method_1_code (1 : Nat) (Option.none : Option Jvm.ClassFile.FieldType)) ∈ lw_all := lw_g (lw_at lw_m1 40 rfl) rfl
theorem q99 : (Jvm.Cond.methodLink "java/util/AbstractCollection" (1 : Nat) ({ cls := "java/lang/Object", name := "<init>", desc := "()V" } : Jvm.MethodName)) ∈ lw_all := lw_g (lw_at lw_m1 41 rfl) rfl
/-! java/util/AbstractList -/
set_option maxRecDepth 100000
def RJ1 : String := "java/util/AbstractList"
abbrev cJ1_init : ByteArray := prog_21_method_1_code
def yJ1_init : MethodName := ⟨RJ1, "<init>", "()V"⟩
def dkwJ1_init_0 : List UInt8 := [42, 183, 0, 1, 42, 3, 181, 0, 7, 177]
abbrev dktJ1_init_0 : List UInt8 := dkwJ1_init_0 ++ []
theorem dksJ1_init_0 : cJ1_init.data.toList.drop 0 = dktJ1_init_0 := by decide +kernel
theorem dJ1_init_0 : decode cJ1_init 0 = .ok (.aload_n 0, 1) := dk_42 (dk_at dksJ1_init_0 0 rfl rfl)
theorem dJ1_init_1 : decode cJ1_init 1 = .ok (.invokespecial 1, 3) := dk_183 0 1 (dk_at dksJ1_init_0 1 rfl rfl)
theorem dJ1_init_4 : decode cJ1_init 4 = .ok (.aload_n 0, 1) := dk_42 (dk_at dksJ1_init_0 4 rfl rfl)
theorem dJ1_init_5 : decode cJ1_init 5 = .ok (.iconst 0, 1) := dk_3 (dk_at dksJ1_init_0 5 rfl rfl)
theorem dJ1_init_6 : decode cJ1_init 6 = .ok (.putfield 7, 3) := dk_181 0 7 (dk_at dksJ1_init_0 6 rfl rfl)
theorem dJ1_init_9 : decode cJ1_init 9 = .ok (.return_, 1) := dk_177 (dk_at dksJ1_init_0 9 rfl rfl)
theorem q61 : (Jvm.Cond.initialized "java/util/AbstractList") ∈ lw_all := lw_g (lw_at lw_m1 3 rfl) rfl
theorem q94 : (Jvm.Cond.instanceMethod ({ cls := "java/util/AbstractList", name := "<init>", desc := "()V" } : Jvm.MethodName)) ∈ lw_all := lw_g (lw_at lw_m1 36 rfl) rfl
theorem q95 : (Jvm.Cond.code ({ cls := "java/util/AbstractList", name := "<init>", desc := "()V" } : Jvm.MethodName) prog_21_method_1_code (1 : Nat) (Option.none : Option Jvm.ClassFile.FieldType)) ∈ lw_all := lw_g (lw_at lw_m1 37 rfl) rfl
theorem q96 : (Jvm.Cond.methodLink "java/util/AbstractList" (1 : Nat) ({ cls := "java/util/AbstractCollection", name := "<init>", desc := "()V" } : Jvm.MethodName)) ∈ lw_all := lw_g (lw_at lw_m1 38 rfl) rfl
theorem q108 : (Jvm.Cond.fieldLink "java/util/AbstractList" (7 : Nat) "java/util/AbstractList" "modCount" "I") ∈ lw_all := lw_g (lw_at lw_m1 50 rfl) rfl
theorem q117 : (Jvm.Cond.soleField "java/util/AbstractList" "modCount") ∈ lw_all := lw_g (lw_at lw_m1 59 rfl) rfl
/-! java/util/ArrayList -/
set_option maxRecDepth 100000
def RJ2 : String := "java/util/ArrayList"
def TJ2 : u_T := fun k => match k with
  | 0 => ("java/util/AbstractList", "modCount", "I", false)
  | 1 => ("java/util/ArrayList", "elementData", "[Ljava/lang/Object;", false)
  | _ => ("java/util/ArrayList", "size", "I", false)
def tyJ2 : Nat → FieldType := fun k => match k with
  | 0 => .int
  | 1 => .array (.object "java/lang/Object")
  | _ => .int
abbrev wsJ20 : List Cond := u_ws RJ2 TJ2 3
theorem nmJ2 : ∀ a, a < 3 → ∀ b, b < 3 → a ≠ b → (TJ2 a).2.1 ≠ (TJ2 b).2.1 := by decide +kernel
theorem tyJ2_ok : ∀ k, k < 3 → parseFieldDescriptor (TJ2 k).2.2.1 = some (tyJ2 k) := by decide +kernel
abbrev cJ2_init : ByteArray := prog_22_method_1_code
def yJ2_init : MethodName := ⟨RJ2, "<init>", "(I)V"⟩
def dkwJ2_init_2 : List UInt8 := [182, 0, 25, 27, 182, 0, 29, 182, 0, 32, 183, 0, 36, 191, 177]
abbrev dktJ2_init_2 : List UInt8 := dkwJ2_init_2 ++ []
def dkwJ2_init_1 : List UInt8 := [178, 0, 15, 181, 0, 9, 167, 0, 30, 187, 0, 18, 89, 187, 0, 20, 89, 183, 0, 22, 18, 23]
abbrev dktJ2_init_1 : List UInt8 := dkwJ2_init_1 ++ dktJ2_init_2
def dkwJ2_init_0 : List UInt8 := [42, 183, 0, 1, 27, 158, 0, 14, 42, 27, 189, 0, 7, 181, 0, 9, 167, 0, 44, 27, 154, 0, 13, 42]
abbrev dktJ2_init_0 : List UInt8 := dkwJ2_init_0 ++ dktJ2_init_1
theorem dksJ2_init_0 : cJ2_init.data.toList.drop 0 = dktJ2_init_0 := by decide +kernel
theorem dksJ2_init_1 : cJ2_init.data.toList.drop 24 = dktJ2_init_1 := dk_seg dksJ2_init_0 24 rfl rfl
theorem dksJ2_init_2 : cJ2_init.data.toList.drop 46 = dktJ2_init_2 := dk_seg dksJ2_init_1 22 rfl rfl
theorem dJ2_init_0 : decode cJ2_init 0 = .ok (.aload_n 0, 1) := dk_42 (dk_at dksJ2_init_0 0 rfl rfl)
theorem dJ2_init_1 : decode cJ2_init 1 = .ok (.invokespecial 1, 3) := dk_183 0 1 (dk_at dksJ2_init_0 1 rfl rfl)
theorem dJ2_init_4 : decode cJ2_init 4 = .ok (.iload_n 1, 1) := dk_27 (dk_at dksJ2_init_0 4 rfl rfl)
theorem dJ2_init_5 : decode cJ2_init 5 = .ok (.ifCond .le 14, 3) := dk_158 0 14 (dk_at dksJ2_init_0 5 rfl rfl)
theorem dJ2_init_8 : decode cJ2_init 8 = .ok (.aload_n 0, 1) := dk_42 (dk_at dksJ2_init_0 8 rfl rfl)
theorem dJ2_init_9 : decode cJ2_init 9 = .ok (.iload_n 1, 1) := dk_27 (dk_at dksJ2_init_0 9 rfl rfl)
theorem dJ2_init_10 : decode cJ2_init 10 = .ok (.anewarray 7, 3) := dk_189 0 7 (dk_at dksJ2_init_0 10 rfl rfl)
theorem dJ2_init_13 : decode cJ2_init 13 = .ok (.putfield 9, 3) := dk_181 0 9 (dk_at dksJ2_init_0 13 rfl rfl)
theorem dJ2_init_16 : decode cJ2_init 16 = .ok (.goto 44, 3) := dk_167 0 44 (dk_at dksJ2_init_0 16 rfl rfl)
theorem dJ2_init_19 : decode cJ2_init 19 = .ok (.iload_n 1, 1) := dk_27 (dk_at dksJ2_init_0 19 rfl rfl)
theorem dJ2_init_20 : decode cJ2_init 20 = .ok (.ifCond .ne 13, 3) := dk_154 0 13 (dk_at dksJ2_init_0 20 rfl rfl)
theorem dJ2_init_23 : decode cJ2_init 23 = .ok (.aload_n 0, 1) := dk_42 (dk_at dksJ2_init_0 23 rfl rfl)
theorem dJ2_init_24 : decode cJ2_init 24 = .ok (.getstatic 15, 3) := dk_178 0 15 (dk_at dksJ2_init_1 0 rfl rfl)
theorem dJ2_init_27 : decode cJ2_init 27 = .ok (.putfield 9, 3) := dk_181 0 9 (dk_at dksJ2_init_1 3 rfl rfl)
theorem dJ2_init_30 : decode cJ2_init 30 = .ok (.goto 30, 3) := dk_167 0 30 (dk_at dksJ2_init_1 6 rfl rfl)
theorem dJ2_init_33 : decode cJ2_init 33 = .ok (.new 18, 3) := dk_187 0 18 (dk_at dksJ2_init_1 9 rfl rfl)
theorem dJ2_init_36 : decode cJ2_init 36 = .ok (.dup, 1) := dk_89 (dk_at dksJ2_init_1 12 rfl rfl)
theorem dJ2_init_37 : decode cJ2_init 37 = .ok (.new 20, 3) := dk_187 0 20 (dk_at dksJ2_init_1 13 rfl rfl)
theorem dJ2_init_40 : decode cJ2_init 40 = .ok (.dup, 1) := dk_89 (dk_at dksJ2_init_1 16 rfl rfl)
theorem dJ2_init_41 : decode cJ2_init 41 = .ok (.invokespecial 22, 3) := dk_183 0 22 (dk_at dksJ2_init_1 17 rfl rfl)
theorem dJ2_init_44 : decode cJ2_init 44 = .ok (.ldc 23, 2) := dk_18 23 (dk_at dksJ2_init_1 20 rfl rfl)
theorem dJ2_init_46 : decode cJ2_init 46 = .ok (.invokevirtual 25, 3) := dk_182 0 25 (dk_at dksJ2_init_2 0 rfl rfl)
theorem dJ2_init_49 : decode cJ2_init 49 = .ok (.iload_n 1, 1) := dk_27 (dk_at dksJ2_init_2 3 rfl rfl)
theorem dJ2_init_50 : decode cJ2_init 50 = .ok (.invokevirtual 29, 3) := dk_182 0 29 (dk_at dksJ2_init_2 4 rfl rfl)
theorem dJ2_init_53 : decode cJ2_init 53 = .ok (.invokevirtual 32, 3) := dk_182 0 32 (dk_at dksJ2_init_2 7 rfl rfl)
theorem dJ2_init_56 : decode cJ2_init 56 = .ok (.invokespecial 36, 3) := dk_183 0 36 (dk_at dksJ2_init_2 10 rfl rfl)
theorem dJ2_init_59 : decode cJ2_init 59 = .ok (.athrow, 1) := dk_191 (dk_at dksJ2_init_2 13 rfl rfl)
theorem dJ2_init_60 : decode cJ2_init 60 = .ok (.return_, 1) := dk_177 (dk_at dksJ2_init_2 14 rfl rfl)
abbrev cJ2_size : ByteArray := prog_22_method_8_code
def yJ2_size : MethodName := ⟨RJ2, "size", "()I"⟩
theorem dJ2_size_0 : decode cJ2_size 0 = .ok (.aload_n 0, 1) := by decide +kernel
theorem dJ2_size_1 : decode cJ2_size 1 = .ok (.getfield 48, 3) := by decide +kernel
theorem dJ2_size_4 : decode cJ2_size 4 = .ok (.ireturn, 1) := by decide +kernel
abbrev cJ2_iterator : ByteArray := prog_22_method_55_code
def yJ2_iterator : MethodName := ⟨RJ2, "iterator", "()Ljava/util/Iterator;"⟩
def dkwJ2_iterator_0 : List UInt8 := [187, 1, 11, 89, 42, 183, 1, 13, 176]
abbrev dktJ2_iterator_0 : List UInt8 := dkwJ2_iterator_0 ++ []
theorem dksJ2_iterator_0 : cJ2_iterator.data.toList.drop 0 = dktJ2_iterator_0 := by decide +kernel
theorem dJ2_iterator_0 : decode cJ2_iterator 0 = .ok (.new 267, 3) := dk_187 1 11 (dk_at dksJ2_iterator_0 0 rfl rfl)
theorem dJ2_iterator_3 : decode cJ2_iterator 3 = .ok (.dup, 1) := dk_89 (dk_at dksJ2_iterator_0 3 rfl rfl)
theorem dJ2_iterator_4 : decode cJ2_iterator 4 = .ok (.aload_n 0, 1) := dk_42 (dk_at dksJ2_iterator_0 4 rfl rfl)
theorem dJ2_iterator_5 : decode cJ2_iterator 5 = .ok (.invokespecial 269, 3) := dk_183 1 13 (dk_at dksJ2_iterator_0 5 rfl rfl)
theorem dJ2_iterator_8 : decode cJ2_iterator 8 = .ok (.areturn, 1) := dk_176 (dk_at dksJ2_iterator_0 8 rfl rfl)
abbrev cJ2_get : ByteArray := prog_22_method_20_code
def yJ2_get : MethodName := ⟨RJ2, "get", "(I)Ljava/lang/Object;"⟩
def dkwJ2_get_0 : List UInt8 := [27, 42, 180, 0, 48, 184, 0, 118, 87, 42, 27, 182, 0, 123, 176]
abbrev dktJ2_get_0 : List UInt8 := dkwJ2_get_0 ++ []
theorem dksJ2_get_0 : cJ2_get.data.toList.drop 0 = dktJ2_get_0 := by decide +kernel
theorem dJ2_get_0 : decode cJ2_get 0 = .ok (.iload_n 1, 1) := dk_27 (dk_at dksJ2_get_0 0 rfl rfl)
theorem dJ2_get_1 : decode cJ2_get 1 = .ok (.aload_n 0, 1) := dk_42 (dk_at dksJ2_get_0 1 rfl rfl)
theorem dJ2_get_2 : decode cJ2_get 2 = .ok (.getfield 48, 3) := dk_180 0 48 (dk_at dksJ2_get_0 2 rfl rfl)
theorem dJ2_get_5 : decode cJ2_get 5 = .ok (.invokestatic 118, 3) := dk_184 0 118 (dk_at dksJ2_get_0 5 rfl rfl)
theorem dJ2_get_8 : decode cJ2_get 8 = .ok (.pop, 1) := dk_87 (dk_at dksJ2_get_0 8 rfl rfl)
theorem dJ2_get_9 : decode cJ2_get 9 = .ok (.aload_n 0, 1) := dk_42 (dk_at dksJ2_get_0 9 rfl rfl)
theorem dJ2_get_10 : decode cJ2_get 10 = .ok (.iload_n 1, 1) := dk_27 (dk_at dksJ2_get_0 10 rfl rfl)
theorem dJ2_get_11 : decode cJ2_get 11 = .ok (.invokevirtual 123, 3) := dk_182 0 123 (dk_at dksJ2_get_0 11 rfl rfl)
theorem dJ2_get_14 : decode cJ2_get 14 = .ok (.areturn, 1) := dk_176 (dk_at dksJ2_get_0 14 rfl rfl)
abbrev cJ2_elementData : ByteArray := prog_22_method_18_code
def yJ2_elementData : MethodName := ⟨RJ2, "elementData", "(I)Ljava/lang/Object;"⟩
def dkwJ2_elementData_0 : List UInt8 := [42, 180, 0, 9, 27, 50, 176]
abbrev dktJ2_elementData_0 : List UInt8 := dkwJ2_elementData_0 ++ []
theorem dksJ2_elementData_0 : cJ2_elementData.data.toList.drop 0 = dktJ2_elementData_0 := by decide +kernel
theorem dJ2_elementData_0 : decode cJ2_elementData 0 = .ok (.aload_n 0, 1) := dk_42 (dk_at dksJ2_elementData_0 0 rfl rfl)
theorem dJ2_elementData_1 : decode cJ2_elementData 1 = .ok (.getfield 9, 3) := dk_180 0 9 (dk_at dksJ2_elementData_0 1 rfl rfl)
theorem dJ2_elementData_4 : decode cJ2_elementData 4 = .ok (.iload_n 1, 1) := dk_27 (dk_at dksJ2_elementData_0 4 rfl rfl)
theorem dJ2_elementData_5 : decode cJ2_elementData 5 = .ok (.aaload, 1) := dk_50 (dk_at dksJ2_elementData_0 5 rfl rfl)
theorem dJ2_elementData_6 : decode cJ2_elementData 6 = .ok (.areturn, 1) := dk_176 (dk_at dksJ2_elementData_0 6 rfl rfl)
abbrev cJ2_add : ByteArray := prog_22_method_25_code
def yJ2_add : MethodName := ⟨RJ2, "add", "(Ljava/lang/Object;)Z"⟩
def dkwJ2_add_1 : List UInt8 := [172]
abbrev dktJ2_add_1 : List UInt8 := dkwJ2_add_1 ++ []
def dkwJ2_add_0 : List UInt8 := [42, 89, 180, 0, 63, 4, 96, 181, 0, 63, 42, 43, 42, 180, 0, 9, 42, 180, 0, 48, 182, 0, 131, 4]
abbrev dktJ2_add_0 : List UInt8 := dkwJ2_add_0 ++ dktJ2_add_1
theorem dksJ2_add_0 : cJ2_add.data.toList.drop 0 = dktJ2_add_0 := by decide +kernel
theorem dksJ2_add_1 : cJ2_add.data.toList.drop 24 = dktJ2_add_1 := dk_seg dksJ2_add_0 24 rfl rfl
theorem dJ2_add_0 : decode cJ2_add 0 = .ok (.aload_n 0, 1) := dk_42 (dk_at dksJ2_add_0 0 rfl rfl)
theorem dJ2_add_1 : decode cJ2_add 1 = .ok (.dup, 1) := dk_89 (dk_at dksJ2_add_0 1 rfl rfl)
theorem dJ2_add_2 : decode cJ2_add 2 = .ok (.getfield 63, 3) := dk_180 0 63 (dk_at dksJ2_add_0 2 rfl rfl)
theorem dJ2_add_5 : decode cJ2_add 5 = .ok (.iconst 1, 1) := dk_4 (dk_at dksJ2_add_0 5 rfl rfl)
theorem dJ2_add_6 : decode cJ2_add 6 = .ok (.iadd, 1) := dk_96 (dk_at dksJ2_add_0 6 rfl rfl)
theorem dJ2_add_7 : decode cJ2_add 7 = .ok (.putfield 63, 3) := dk_181 0 63 (dk_at dksJ2_add_0 7 rfl rfl)
theorem dJ2_add_10 : decode cJ2_add 10 = .ok (.aload_n 0, 1) := dk_42 (dk_at dksJ2_add_0 10 rfl rfl)
theorem dJ2_add_11 : decode cJ2_add 11 = .ok (.aload_n 1, 1) := dk_43 (dk_at dksJ2_add_0 11 rfl rfl)
theorem dJ2_add_12 : decode cJ2_add 12 = .ok (.aload_n 0, 1) := dk_42 (dk_at dksJ2_add_0 12 rfl rfl)
theorem dJ2_add_13 : decode cJ2_add 13 = .ok (.getfield 9, 3) := dk_180 0 9 (dk_at dksJ2_add_0 13 rfl rfl)
theorem dJ2_add_16 : decode cJ2_add 16 = .ok (.aload_n 0, 1) := dk_42 (dk_at dksJ2_add_0 16 rfl rfl)
theorem dJ2_add_17 : decode cJ2_add 17 = .ok (.getfield 48, 3) := dk_180 0 48 (dk_at dksJ2_add_0 17 rfl rfl)
theorem dJ2_add_20 : decode cJ2_add 20 = .ok (.invokevirtual 131, 3) := dk_182 0 131 (dk_at dksJ2_add_0 20 rfl rfl)
theorem dJ2_add_23 : decode cJ2_add 23 = .ok (.iconst 1, 1) := dk_4 (dk_at dksJ2_add_0 23 rfl rfl)
theorem dJ2_add_24 : decode cJ2_add 24 = .ok (.ireturn, 1) := dk_172 (dk_at dksJ2_add_1 0 rfl rfl)
abbrev cJ2_add_2 : ByteArray := prog_22_method_24_code
def yJ2_add_2 : MethodName := ⟨RJ2, "add", "(Ljava/lang/Object;[Ljava/lang/Object;I)V"⟩
def dkwJ2_add_2_0 : List UInt8 := [29, 44, 190, 160, 0, 8, 42, 182, 0, 129, 77, 44, 29, 43, 83, 42, 29, 4, 96, 181, 0, 48, 177]
abbrev dktJ2_add_2_0 : List UInt8 := dkwJ2_add_2_0 ++ []
theorem dksJ2_add_2_0 : cJ2_add_2.data.toList.drop 0 = dktJ2_add_2_0 := by decide +kernel
theorem dJ2_add_2_0 : decode cJ2_add_2 0 = .ok (.iload_n 3, 1) := dk_29 (dk_at dksJ2_add_2_0 0 rfl rfl)
theorem dJ2_add_2_1 : decode cJ2_add_2 1 = .ok (.aload_n 2, 1) := dk_44 (dk_at dksJ2_add_2_0 1 rfl rfl)
theorem dJ2_add_2_2 : decode cJ2_add_2 2 = .ok (.arraylength, 1) := dk_190 (dk_at dksJ2_add_2_0 2 rfl rfl)
theorem dJ2_add_2_3 : decode cJ2_add_2 3 = .ok (.if_icmp .ne 8, 3) := dk_160 0 8 (dk_at dksJ2_add_2_0 3 rfl rfl)
theorem dJ2_add_2_6 : decode cJ2_add_2 6 = .ok (.aload_n 0, 1) := dk_42 (dk_at dksJ2_add_2_0 6 rfl rfl)
theorem dJ2_add_2_7 : decode cJ2_add_2 7 = .ok (.invokevirtual 129, 3) := dk_182 0 129 (dk_at dksJ2_add_2_0 7 rfl rfl)
theorem dJ2_add_2_10 : decode cJ2_add_2 10 = .ok (.astore_n 2, 1) := dk_77 (dk_at dksJ2_add_2_0 10 rfl rfl)
theorem dJ2_add_2_11 : decode cJ2_add_2 11 = .ok (.aload_n 2, 1) := dk_44 (dk_at dksJ2_add_2_0 11 rfl rfl)
theorem dJ2_add_2_12 : decode cJ2_add_2 12 = .ok (.iload_n 3, 1) := dk_29 (dk_at dksJ2_add_2_0 12 rfl rfl)
theorem dJ2_add_2_13 : decode cJ2_add_2 13 = .ok (.aload_n 1, 1) := dk_43 (dk_at dksJ2_add_2_0 13 rfl rfl)
theorem dJ2_add_2_14 : decode cJ2_add_2 14 = .ok (.aastore, 1) := dk_83 (dk_at dksJ2_add_2_0 14 rfl rfl)
theorem dJ2_add_2_15 : decode cJ2_add_2 15 = .ok (.aload_n 0, 1) := dk_42 (dk_at dksJ2_add_2_0 15 rfl rfl)
theorem dJ2_add_2_16 : decode cJ2_add_2 16 = .ok (.iload_n 3, 1) := dk_29 (dk_at dksJ2_add_2_0 16 rfl rfl)
theorem dJ2_add_2_17 : decode cJ2_add_2 17 = .ok (.iconst 1, 1) := dk_4 (dk_at dksJ2_add_2_0 17 rfl rfl)
theorem dJ2_add_2_18 : decode cJ2_add_2 18 = .ok (.iadd, 1) := dk_96 (dk_at dksJ2_add_2_0 18 rfl rfl)
theorem dJ2_add_2_19 : decode cJ2_add_2 19 = .ok (.putfield 48, 3) := dk_181 0 48 (dk_at dksJ2_add_2_0 19 rfl rfl)
theorem dJ2_add_2_22 : decode cJ2_add_2 22 = .ok (.return_, 1) := dk_177 (dk_at dksJ2_add_2_0 22 rfl rfl)
abbrev cJ2_grow : ByteArray := prog_22_method_7_code
def yJ2_grow : MethodName := ⟨RJ2, "grow", "()[Ljava/lang/Object;"⟩
def dkwJ2_grow_0 : List UInt8 := [42, 42, 180, 0, 48, 4, 96, 182, 0, 69, 176]
abbrev dktJ2_grow_0 : List UInt8 := dkwJ2_grow_0 ++ []
theorem dksJ2_grow_0 : cJ2_grow.data.toList.drop 0 = dktJ2_grow_0 := by decide +kernel
theorem dJ2_grow_0 : decode cJ2_grow 0 = .ok (.aload_n 0, 1) := dk_42 (dk_at dksJ2_grow_0 0 rfl rfl)
theorem dJ2_grow_1 : decode cJ2_grow 1 = .ok (.aload_n 0, 1) := dk_42 (dk_at dksJ2_grow_0 1 rfl rfl)
theorem dJ2_grow_2 : decode cJ2_grow 2 = .ok (.getfield 48, 3) := dk_180 0 48 (dk_at dksJ2_grow_0 2 rfl rfl)
theorem dJ2_grow_5 : decode cJ2_grow 5 = .ok (.iconst 1, 1) := dk_4 (dk_at dksJ2_grow_0 5 rfl rfl)
theorem dJ2_grow_6 : decode cJ2_grow 6 = .ok (.iadd, 1) := dk_96 (dk_at dksJ2_grow_0 6 rfl rfl)
theorem dJ2_grow_7 : decode cJ2_grow 7 = .ok (.invokevirtual 69, 3) := dk_182 0 69 (dk_at dksJ2_grow_0 7 rfl rfl)
theorem dJ2_grow_10 : decode cJ2_grow 10 = .ok (.areturn, 1) := dk_176 (dk_at dksJ2_grow_0 10 rfl rfl)
abbrev cJ2_grow_2 : ByteArray := prog_22_method_6_code
def yJ2_grow_2 : MethodName := ⟨RJ2, "grow", "(I)[Ljava/lang/Object;"⟩
def dkwJ2_grow_2_2 : List UInt8 := [27, 184, 0, 79, 189, 0, 7, 90, 181, 0, 9, 176]
abbrev dktJ2_grow_2_2 : List UInt8 := dkwJ2_grow_2_2 ++ []
def dkwJ2_grow_2_1 : List UInt8 := [28, 4, 122, 184, 0, 73, 62, 42, 42, 180, 0, 9, 29, 184, 0, 66, 90, 181, 0, 9, 176, 42, 16, 10]
abbrev dktJ2_grow_2_1 : List UInt8 := dkwJ2_grow_2_1 ++ dktJ2_grow_2_2
def dkwJ2_grow_2_0 : List UInt8 := [42, 180, 0, 9, 190, 61, 28, 157, 0, 13, 42, 180, 0, 9, 178, 0, 39, 165, 0, 28, 28, 27, 28, 100]
abbrev dktJ2_grow_2_0 : List UInt8 := dkwJ2_grow_2_0 ++ dktJ2_grow_2_1
theorem dksJ2_grow_2_0 : cJ2_grow_2.data.toList.drop 0 = dktJ2_grow_2_0 := by decide +kernel
theorem dksJ2_grow_2_1 : cJ2_grow_2.data.toList.drop 24 = dktJ2_grow_2_1 := dk_seg dksJ2_grow_2_0 24 rfl rfl
theorem dksJ2_grow_2_2 : cJ2_grow_2.data.toList.drop 48 = dktJ2_grow_2_2 := dk_seg dksJ2_grow_2_1 24 rfl rfl
theorem dJ2_grow_2_0 : decode cJ2_grow_2 0 = .ok (.aload_n 0, 1) := dk_42 (dk_at dksJ2_grow_2_0 0 rfl rfl)
theorem dJ2_grow_2_1 : decode cJ2_grow_2 1 = .ok (.getfield 9, 3) := dk_180 0 9 (dk_at dksJ2_grow_2_0 1 rfl rfl)
theorem dJ2_grow_2_4 : decode cJ2_grow_2 4 = .ok (.arraylength, 1) := dk_190 (dk_at dksJ2_grow_2_0 4 rfl rfl)
theorem dJ2_grow_2_5 : decode cJ2_grow_2 5 = .ok (.istore_n 2, 1) := dk_61 (dk_at dksJ2_grow_2_0 5 rfl rfl)
theorem dJ2_grow_2_6 : decode cJ2_grow_2 6 = .ok (.iload_n 2, 1) := dk_28 (dk_at dksJ2_grow_2_0 6 rfl rfl)
theorem dJ2_grow_2_7 : decode cJ2_grow_2 7 = .ok (.ifCond .gt 13, 3) := dk_157 0 13 (dk_at dksJ2_grow_2_0 7 rfl rfl)
theorem dJ2_grow_2_10 : decode cJ2_grow_2 10 = .ok (.aload_n 0, 1) := dk_42 (dk_at dksJ2_grow_2_0 10 rfl rfl)
theorem dJ2_grow_2_11 : decode cJ2_grow_2 11 = .ok (.getfield 9, 3) := dk_180 0 9 (dk_at dksJ2_grow_2_0 11 rfl rfl)
theorem dJ2_grow_2_14 : decode cJ2_grow_2 14 = .ok (.getstatic 39, 3) := dk_178 0 39 (dk_at dksJ2_grow_2_0 14 rfl rfl)
theorem dJ2_grow_2_17 : decode cJ2_grow_2 17 = .ok (.if_acmp .eq 28, 3) := dk_165 0 28 (dk_at dksJ2_grow_2_0 17 rfl rfl)
theorem dJ2_grow_2_20 : decode cJ2_grow_2 20 = .ok (.iload_n 2, 1) := dk_28 (dk_at dksJ2_grow_2_0 20 rfl rfl)
theorem dJ2_grow_2_21 : decode cJ2_grow_2 21 = .ok (.iload_n 1, 1) := dk_27 (dk_at dksJ2_grow_2_0 21 rfl rfl)
theorem dJ2_grow_2_22 : decode cJ2_grow_2 22 = .ok (.iload_n 2, 1) := dk_28 (dk_at dksJ2_grow_2_0 22 rfl rfl)
theorem dJ2_grow_2_23 : decode cJ2_grow_2 23 = .ok (.isub, 1) := dk_100 (dk_at dksJ2_grow_2_0 23 rfl rfl)
theorem dJ2_grow_2_24 : decode cJ2_grow_2 24 = .ok (.iload_n 2, 1) := dk_28 (dk_at dksJ2_grow_2_1 0 rfl rfl)
theorem dJ2_grow_2_25 : decode cJ2_grow_2 25 = .ok (.iconst 1, 1) := dk_4 (dk_at dksJ2_grow_2_1 1 rfl rfl)
theorem dJ2_grow_2_26 : decode cJ2_grow_2 26 = .ok (.ishr, 1) := dk_122 (dk_at dksJ2_grow_2_1 2 rfl rfl)
theorem dJ2_grow_2_27 : decode cJ2_grow_2 27 = .ok (.invokestatic 73, 3) := dk_184 0 73 (dk_at dksJ2_grow_2_1 3 rfl rfl)
theorem dJ2_grow_2_30 : decode cJ2_grow_2 30 = .ok (.istore_n 3, 1) := dk_62 (dk_at dksJ2_grow_2_1 6 rfl rfl)
theorem dJ2_grow_2_31 : decode cJ2_grow_2 31 = .ok (.aload_n 0, 1) := dk_42 (dk_at dksJ2_grow_2_1 7 rfl rfl)
theorem dJ2_grow_2_32 : decode cJ2_grow_2 32 = .ok (.aload_n 0, 1) := dk_42 (dk_at dksJ2_grow_2_1 8 rfl rfl)
theorem dJ2_grow_2_33 : decode cJ2_grow_2 33 = .ok (.getfield 9, 3) := dk_180 0 9 (dk_at dksJ2_grow_2_1 9 rfl rfl)
theorem dJ2_grow_2_36 : decode cJ2_grow_2 36 = .ok (.iload_n 3, 1) := dk_29 (dk_at dksJ2_grow_2_1 12 rfl rfl)
theorem dJ2_grow_2_37 : decode cJ2_grow_2 37 = .ok (.invokestatic 66, 3) := dk_184 0 66 (dk_at dksJ2_grow_2_1 13 rfl rfl)
theorem dJ2_grow_2_40 : decode cJ2_grow_2 40 = .ok (.dup_x1, 1) := dk_90 (dk_at dksJ2_grow_2_1 16 rfl rfl)
theorem dJ2_grow_2_41 : decode cJ2_grow_2 41 = .ok (.putfield 9, 3) := dk_181 0 9 (dk_at dksJ2_grow_2_1 17 rfl rfl)
theorem dJ2_grow_2_44 : decode cJ2_grow_2 44 = .ok (.areturn, 1) := dk_176 (dk_at dksJ2_grow_2_1 20 rfl rfl)
theorem dJ2_grow_2_45 : decode cJ2_grow_2 45 = .ok (.aload_n 0, 1) := dk_42 (dk_at dksJ2_grow_2_1 21 rfl rfl)
theorem dJ2_grow_2_46 : decode cJ2_grow_2 46 = .ok (.bipush 10, 2) := dk_16 10 (dk_at dksJ2_grow_2_1 22 rfl rfl)
theorem dJ2_grow_2_48 : decode cJ2_grow_2 48 = .ok (.iload_n 1, 1) := dk_27 (dk_at dksJ2_grow_2_2 0 rfl rfl)
theorem dJ2_grow_2_49 : decode cJ2_grow_2 49 = .ok (.invokestatic 79, 3) := dk_184 0 79 (dk_at dksJ2_grow_2_2 1 rfl rfl)
theorem dJ2_grow_2_52 : decode cJ2_grow_2 52 = .ok (.anewarray 7, 3) := dk_189 0 7 (dk_at dksJ2_grow_2_2 4 rfl rfl)
theorem dJ2_grow_2_55 : decode cJ2_grow_2 55 = .ok (.dup_x1, 1) := dk_90 (dk_at dksJ2_grow_2_2 7 rfl rfl)
theorem dJ2_grow_2_56 : decode cJ2_grow_2 56 = .ok (.putfield 9, 3) := dk_181 0 9 (dk_at dksJ2_grow_2_2 8 rfl rfl)
theorem dJ2_grow_2_59 : decode cJ2_grow_2 59 = .ok (.areturn, 1) := dk_176 (dk_at dksJ2_grow_2_2 11 rfl rfl)
abbrev cJ2_isEmpty : ByteArray := prog_22_method_9_code
def yJ2_isEmpty : MethodName := ⟨RJ2, "isEmpty", "()Z"⟩
def dkwJ2_isEmpty_0 : List UInt8 := [42, 180, 0, 48, 154, 0, 7, 4, 167, 0, 4, 3, 172]
abbrev dktJ2_isEmpty_0 : List UInt8 := dkwJ2_isEmpty_0 ++ []
theorem dksJ2_isEmpty_0 : cJ2_isEmpty.data.toList.drop 0 = dktJ2_isEmpty_0 := by decide +kernel
theorem dJ2_isEmpty_0 : decode cJ2_isEmpty 0 = .ok (.aload_n 0, 1) := dk_42 (dk_at dksJ2_isEmpty_0 0 rfl rfl)
theorem dJ2_isEmpty_1 : decode cJ2_isEmpty 1 = .ok (.getfield 48, 3) := dk_180 0 48 (dk_at dksJ2_isEmpty_0 1 rfl rfl)
theorem dJ2_isEmpty_4 : decode cJ2_isEmpty 4 = .ok (.ifCond .ne 7, 3) := dk_154 0 7 (dk_at dksJ2_isEmpty_0 4 rfl rfl)
theorem dJ2_isEmpty_7 : decode cJ2_isEmpty 7 = .ok (.iconst 1, 1) := dk_4 (dk_at dksJ2_isEmpty_0 7 rfl rfl)
theorem dJ2_isEmpty_8 : decode cJ2_isEmpty 8 = .ok (.goto 4, 3) := dk_167 0 4 (dk_at dksJ2_isEmpty_0 8 rfl rfl)
theorem dJ2_isEmpty_11 : decode cJ2_isEmpty 11 = .ok (.iconst 0, 1) := dk_3 (dk_at dksJ2_isEmpty_0 11 rfl rfl)
theorem dJ2_isEmpty_12 : decode cJ2_isEmpty 12 = .ok (.ireturn, 1) := dk_172 (dk_at dksJ2_isEmpty_0 12 rfl rfl)
abbrev cJ2_remove : ByteArray := prog_22_method_29_code
def yJ2_remove : MethodName := ⟨RJ2, "remove", "(I)Ljava/lang/Object;"⟩
def dkwJ2_remove_1 : List UInt8 := [45, 176]
abbrev dktJ2_remove_1 : List UInt8 := dkwJ2_remove_1 ++ []
def dkwJ2_remove_0 : List UInt8 := [27, 42, 180, 0, 48, 184, 0, 118, 87, 42, 180, 0, 9, 77, 44, 27, 50, 78, 42, 44, 27, 182, 0, 144]
abbrev dktJ2_remove_0 : List UInt8 := dkwJ2_remove_0 ++ dktJ2_remove_1
theorem dksJ2_remove_0 : cJ2_remove.data.toList.drop 0 = dktJ2_remove_0 := by decide +kernel
theorem dksJ2_remove_1 : cJ2_remove.data.toList.drop 24 = dktJ2_remove_1 := dk_seg dksJ2_remove_0 24 rfl rfl
theorem dJ2_remove_0 : decode cJ2_remove 0 = .ok (.iload_n 1, 1) := dk_27 (dk_at dksJ2_remove_0 0 rfl rfl)
theorem dJ2_remove_1 : decode cJ2_remove 1 = .ok (.aload_n 0, 1) := dk_42 (dk_at dksJ2_remove_0 1 rfl rfl)
theorem dJ2_remove_2 : decode cJ2_remove 2 = .ok (.getfield 48, 3) := dk_180 0 48 (dk_at dksJ2_remove_0 2 rfl rfl)
theorem dJ2_remove_5 : decode cJ2_remove 5 = .ok (.invokestatic 118, 3) := dk_184 0 118 (dk_at dksJ2_remove_0 5 rfl rfl)
theorem dJ2_remove_8 : decode cJ2_remove 8 = .ok (.pop, 1) := dk_87 (dk_at dksJ2_remove_0 8 rfl rfl)
theorem dJ2_remove_9 : decode cJ2_remove 9 = .ok (.aload_n 0, 1) := dk_42 (dk_at dksJ2_remove_0 9 rfl rfl)
theorem dJ2_remove_10 : decode cJ2_remove 10 = .ok (.getfield 9, 3) := dk_180 0 9 (dk_at dksJ2_remove_0 10 rfl rfl)
theorem dJ2_remove_13 : decode cJ2_remove 13 = .ok (.astore_n 2, 1) := dk_77 (dk_at dksJ2_remove_0 13 rfl rfl)
theorem dJ2_remove_14 : decode cJ2_remove 14 = .ok (.aload_n 2, 1) := dk_44 (dk_at dksJ2_remove_0 14 rfl rfl)
theorem dJ2_remove_15 : decode cJ2_remove 15 = .ok (.iload_n 1, 1) := dk_27 (dk_at dksJ2_remove_0 15 rfl rfl)
theorem dJ2_remove_16 : decode cJ2_remove 16 = .ok (.aaload, 1) := dk_50 (dk_at dksJ2_remove_0 16 rfl rfl)
theorem dJ2_remove_17 : decode cJ2_remove 17 = .ok (.astore_n 3, 1) := dk_78 (dk_at dksJ2_remove_0 17 rfl rfl)
theorem dJ2_remove_18 : decode cJ2_remove 18 = .ok (.aload_n 0, 1) := dk_42 (dk_at dksJ2_remove_0 18 rfl rfl)
theorem dJ2_remove_19 : decode cJ2_remove 19 = .ok (.aload_n 2, 1) := dk_44 (dk_at dksJ2_remove_0 19 rfl rfl)
theorem dJ2_remove_20 : decode cJ2_remove 20 = .ok (.iload_n 1, 1) := dk_27 (dk_at dksJ2_remove_0 20 rfl rfl)
theorem dJ2_remove_21 : decode cJ2_remove 21 = .ok (.invokevirtual 144, 3) := dk_182 0 144 (dk_at dksJ2_remove_0 21 rfl rfl)
theorem dJ2_remove_24 : decode cJ2_remove 24 = .ok (.aload_n 3, 1) := dk_45 (dk_at dksJ2_remove_1 0 rfl rfl)
theorem dJ2_remove_25 : decode cJ2_remove 25 = .ok (.areturn, 1) := dk_176 (dk_at dksJ2_remove_1 1 rfl rfl)
abbrev cJ2_fastRemove : ByteArray := prog_22_method_39_code
def yJ2_fastRemove : MethodName := ⟨RJ2, "fastRemove", "([Ljava/lang/Object;I)V"⟩
def dkwJ2_fastRemove_1 : List UInt8 := [4, 96, 43, 28, 29, 28, 100, 184, 0, 112, 43, 42, 29, 90, 181, 0, 48, 1, 83, 177]
abbrev dktJ2_fastRemove_1 : List UInt8 := dkwJ2_fastRemove_1 ++ []
def dkwJ2_fastRemove_0 : List UInt8 := [42, 89, 180, 0, 63, 4, 96, 181, 0, 63, 42, 180, 0, 48, 4, 100, 89, 62, 28, 164, 0, 15, 43, 28]
abbrev dktJ2_fastRemove_0 : List UInt8 := dkwJ2_fastRemove_0 ++ dktJ2_fastRemove_1
theorem dksJ2_fastRemove_0 : cJ2_fastRemove.data.toList.drop 0 = dktJ2_fastRemove_0 := by decide +kernel
theorem dksJ2_fastRemove_1 : cJ2_fastRemove.data.toList.drop 24 = dktJ2_fastRemove_1 := dk_seg dksJ2_fastRemove_0 24 rfl rfl
theorem dJ2_fastRemove_0 : decode cJ2_fastRemove 0 = .ok (.aload_n 0, 1) := dk_42 (dk_at dksJ2_fastRemove_0 0 rfl rfl)
theorem dJ2_fastRemove_1 : decode cJ2_fastRemove 1 = .ok (.dup, 1) := dk_89 (dk_at dksJ2_fastRemove_0 1 rfl rfl)
theorem dJ2_fastRemove_2 : decode cJ2_fastRemove 2 = .ok (.getfield 63, 3) := dk_180 0 63 (dk_at dksJ2_fastRemove_0 2 rfl rfl)
theorem dJ2_fastRemove_5 : decode cJ2_fastRemove 5 = .ok (.iconst 1, 1) := dk_4 (dk_at dksJ2_fastRemove_0 5 rfl rfl)
theorem dJ2_fastRemove_6 : decode cJ2_fastRemove 6 = .ok (.iadd, 1) := dk_96 (dk_at dksJ2_fastRemove_0 6 rfl rfl)
theorem dJ2_fastRemove_7 : decode cJ2_fastRemove 7 = .ok (.putfield 63, 3) := dk_181 0 63 (dk_at dksJ2_fastRemove_0 7 rfl rfl)
theorem dJ2_fastRemove_10 : decode cJ2_fastRemove 10 = .ok (.aload_n 0, 1) := dk_42 (dk_at dksJ2_fastRemove_0 10 rfl rfl)
theorem dJ2_fastRemove_11 : decode cJ2_fastRemove 11 = .ok (.getfield 48, 3) := dk_180 0 48 (dk_at dksJ2_fastRemove_0 11 rfl rfl)
theorem dJ2_fastRemove_14 : decode cJ2_fastRemove 14 = .ok (.iconst 1, 1) := dk_4 (dk_at dksJ2_fastRemove_0 14 rfl rfl)
theorem dJ2_fastRemove_15 : decode cJ2_fastRemove 15 = .ok (.isub, 1) := dk_100 (dk_at dksJ2_fastRemove_0 15 rfl rfl)
theorem dJ2_fastRemove_16 : decode cJ2_fastRemove 16 = .ok (.dup, 1) := dk_89 (dk_at dksJ2_fastRemove_0 16 rfl rfl)
theorem dJ2_fastRemove_17 : decode cJ2_fastRemove 17 = .ok (.istore_n 3, 1) := dk_62 (dk_at dksJ2_fastRemove_0 17 rfl rfl)
theorem dJ2_fastRemove_18 : decode cJ2_fastRemove 18 = .ok (.iload_n 2, 1) := dk_28 (dk_at dksJ2_fastRemove_0 18 rfl rfl)
theorem dJ2_fastRemove_19 : decode cJ2_fastRemove 19 = .ok (.if_icmp .le 15, 3) := dk_164 0 15 (dk_at dksJ2_fastRemove_0 19 rfl rfl)
theorem dJ2_fastRemove_22 : decode cJ2_fastRemove 22 = .ok (.aload_n 1, 1) := dk_43 (dk_at dksJ2_fastRemove_0 22 rfl rfl)
theorem dJ2_fastRemove_23 : decode cJ2_fastRemove 23 = .ok (.iload_n 2, 1) := dk_28 (dk_at dksJ2_fastRemove_0 23 rfl rfl)
theorem dJ2_fastRemove_24 : decode cJ2_fastRemove 24 = .ok (.iconst 1, 1) := dk_4 (dk_at dksJ2_fastRemove_1 0 rfl rfl)
theorem dJ2_fastRemove_25 : decode cJ2_fastRemove 25 = .ok (.iadd, 1) := dk_96 (dk_at dksJ2_fastRemove_1 1 rfl rfl)
theorem dJ2_fastRemove_26 : decode cJ2_fastRemove 26 = .ok (.aload_n 1, 1) := dk_43 (dk_at dksJ2_fastRemove_1 2 rfl rfl)
theorem dJ2_fastRemove_27 : decode cJ2_fastRemove 27 = .ok (.iload_n 2, 1) := dk_28 (dk_at dksJ2_fastRemove_1 3 rfl rfl)
theorem dJ2_fastRemove_28 : decode cJ2_fastRemove 28 = .ok (.iload_n 3, 1) := dk_29 (dk_at dksJ2_fastRemove_1 4 rfl rfl)
theorem dJ2_fastRemove_29 : decode cJ2_fastRemove 29 = .ok (.iload_n 2, 1) := dk_28 (dk_at dksJ2_fastRemove_1 5 rfl rfl)
theorem dJ2_fastRemove_30 : decode cJ2_fastRemove 30 = .ok (.isub, 1) := dk_100 (dk_at dksJ2_fastRemove_1 6 rfl rfl)
theorem dJ2_fastRemove_31 : decode cJ2_fastRemove 31 = .ok (.invokestatic 112, 3) := dk_184 0 112 (dk_at dksJ2_fastRemove_1 7 rfl rfl)
theorem dJ2_fastRemove_34 : decode cJ2_fastRemove 34 = .ok (.aload_n 1, 1) := dk_43 (dk_at dksJ2_fastRemove_1 10 rfl rfl)
theorem dJ2_fastRemove_35 : decode cJ2_fastRemove 35 = .ok (.aload_n 0, 1) := dk_42 (dk_at dksJ2_fastRemove_1 11 rfl rfl)
theorem dJ2_fastRemove_36 : decode cJ2_fastRemove 36 = .ok (.iload_n 3, 1) := dk_29 (dk_at dksJ2_fastRemove_1 12 rfl rfl)
theorem dJ2_fastRemove_37 : decode cJ2_fastRemove 37 = .ok (.dup_x1, 1) := dk_90 (dk_at dksJ2_fastRemove_1 13 rfl rfl)
theorem dJ2_fastRemove_38 : decode cJ2_fastRemove 38 = .ok (.putfield 48, 3) := dk_181 0 48 (dk_at dksJ2_fastRemove_1 14 rfl rfl)
theorem dJ2_fastRemove_41 : decode cJ2_fastRemove 41 = .ok (.aconst_null, 1) := dk_1 (dk_at dksJ2_fastRemove_1 17 rfl rfl)
theorem dJ2_fastRemove_42 : decode cJ2_fastRemove 42 = .ok (.aastore, 1) := dk_83 (dk_at dksJ2_fastRemove_1 18 rfl rfl)
theorem dJ2_fastRemove_43 : decode cJ2_fastRemove 43 = .ok (.return_, 1) := dk_177 (dk_at dksJ2_fastRemove_1 19 rfl rfl)
abbrev cJ2_clear : ByteArray := prog_22_method_40_code
def yJ2_clear : MethodName := ⟨RJ2, "clear", "()V"⟩
def dkwJ2_clear_1 : List UInt8 := [181, 0, 48, 62, 29, 28, 162, 0, 13, 43, 29, 1, 83, 132, 3, 1, 167, 255, 244, 177]
abbrev dktJ2_clear_1 : List UInt8 := dkwJ2_clear_1 ++ []
def dkwJ2_clear_0 : List UInt8 := [42, 89, 180, 0, 63, 4, 96, 181, 0, 63, 42, 180, 0, 9, 76, 42, 180, 0, 48, 61, 42, 3, 90]
abbrev dktJ2_clear_0 : List UInt8 := dkwJ2_clear_0 ++ dktJ2_clear_1
theorem dksJ2_clear_0 : cJ2_clear.data.toList.drop 0 = dktJ2_clear_0 := by decide +kernel
theorem dksJ2_clear_1 : cJ2_clear.data.toList.drop 23 = dktJ2_clear_1 := dk_seg dksJ2_clear_0 23 rfl rfl
theorem dJ2_clear_0 : decode cJ2_clear 0 = .ok (.aload_n 0, 1) := dk_42 (dk_at dksJ2_clear_0 0 rfl rfl)
theorem dJ2_clear_1 : decode cJ2_clear 1 = .ok (.dup, 1) := dk_89 (dk_at dksJ2_clear_0 1 rfl rfl)
theorem dJ2_clear_2 : decode cJ2_clear 2 = .ok (.getfield 63, 3) := dk_180 0 63 (dk_at dksJ2_clear_0 2 rfl rfl)
theorem dJ2_clear_5 : decode cJ2_clear 5 = .ok (.iconst 1, 1) := dk_4 (dk_at dksJ2_clear_0 5 rfl rfl)
theorem dJ2_clear_6 : decode cJ2_clear 6 = .ok (.iadd, 1) := dk_96 (dk_at dksJ2_clear_0 6 rfl rfl)
theorem dJ2_clear_7 : decode cJ2_clear 7 = .ok (.putfield 63, 3) := dk_181 0 63 (dk_at dksJ2_clear_0 7 rfl rfl)
theorem dJ2_clear_10 : decode cJ2_clear 10 = .ok (.aload_n 0, 1) := dk_42 (dk_at dksJ2_clear_0 10 rfl rfl)
theorem dJ2_clear_11 : decode cJ2_clear 11 = .ok (.getfield 9, 3) := dk_180 0 9 (dk_at dksJ2_clear_0 11 rfl rfl)
theorem dJ2_clear_14 : decode cJ2_clear 14 = .ok (.astore_n 1, 1) := dk_76 (dk_at dksJ2_clear_0 14 rfl rfl)
theorem dJ2_clear_15 : decode cJ2_clear 15 = .ok (.aload_n 0, 1) := dk_42 (dk_at dksJ2_clear_0 15 rfl rfl)
theorem dJ2_clear_16 : decode cJ2_clear 16 = .ok (.getfield 48, 3) := dk_180 0 48 (dk_at dksJ2_clear_0 16 rfl rfl)
theorem dJ2_clear_19 : decode cJ2_clear 19 = .ok (.istore_n 2, 1) := dk_61 (dk_at dksJ2_clear_0 19 rfl rfl)
theorem dJ2_clear_20 : decode cJ2_clear 20 = .ok (.aload_n 0, 1) := dk_42 (dk_at dksJ2_clear_0 20 rfl rfl)
theorem dJ2_clear_21 : decode cJ2_clear 21 = .ok (.iconst 0, 1) := dk_3 (dk_at dksJ2_clear_0 21 rfl rfl)
theorem dJ2_clear_22 : decode cJ2_clear 22 = .ok (.dup_x1, 1) := dk_90 (dk_at dksJ2_clear_0 22 rfl rfl)
theorem dJ2_clear_23 : decode cJ2_clear 23 = .ok (.putfield 48, 3) := dk_181 0 48 (dk_at dksJ2_clear_1 0 rfl rfl)
theorem dJ2_clear_26 : decode cJ2_clear 26 = .ok (.istore_n 3, 1) := dk_62 (dk_at dksJ2_clear_1 3 rfl rfl)
theorem dJ2_clear_27 : decode cJ2_clear 27 = .ok (.iload_n 3, 1) := dk_29 (dk_at dksJ2_clear_1 4 rfl rfl)
theorem dJ2_clear_28 : decode cJ2_clear 28 = .ok (.iload_n 2, 1) := dk_28 (dk_at dksJ2_clear_1 5 rfl rfl)
theorem dJ2_clear_29 : decode cJ2_clear 29 = .ok (.if_icmp .ge 13, 3) := dk_162 0 13 (dk_at dksJ2_clear_1 6 rfl rfl)
theorem dJ2_clear_32 : decode cJ2_clear 32 = .ok (.aload_n 1, 1) := dk_43 (dk_at dksJ2_clear_1 9 rfl rfl)
theorem dJ2_clear_33 : decode cJ2_clear 33 = .ok (.iload_n 3, 1) := dk_29 (dk_at dksJ2_clear_1 10 rfl rfl)
theorem dJ2_clear_34 : decode cJ2_clear 34 = .ok (.aconst_null, 1) := dk_1 (dk_at dksJ2_clear_1 11 rfl rfl)
theorem dJ2_clear_35 : decode cJ2_clear 35 = .ok (.aastore, 1) := dk_83 (dk_at dksJ2_clear_1 12 rfl rfl)
theorem dJ2_clear_36 : decode cJ2_clear 36 = .ok (.iinc 3 1, 3) := dk_132 3 1 (dk_at dksJ2_clear_1 13 rfl rfl)
theorem dJ2_clear_39 : decode cJ2_clear 39 = .ok (.goto (-12), 3) := dk_167 255 244 (dk_at dksJ2_clear_1 16 rfl rfl)
theorem dJ2_clear_42 : decode cJ2_clear 42 = .ok (.return_, 1) := dk_177 (dk_at dksJ2_clear_1 19 rfl rfl)
abbrev cJ2_add_3 : ByteArray := prog_22_method_26_code
def yJ2_add_3 : MethodName := ⟨RJ2, "add", "(ILjava/lang/Object;)V"⟩
def dkwJ2_add_3_2 : List UInt8 := [29, 27, 100, 184, 0, 112, 25, 4, 27, 44, 83, 42, 29, 4, 96, 181, 0, 48, 177]
abbrev dktJ2_add_3_2 : List UInt8 := dkwJ2_add_3_2 ++ []
def dkwJ2_add_3_1 : List UInt8 := [180, 0, 9, 89, 58, 4, 190, 160, 0, 9, 42, 182, 0, 129, 58, 4, 25, 4, 27, 25, 4, 27, 4, 96]
abbrev dktJ2_add_3_1 : List UInt8 := dkwJ2_add_3_1 ++ dktJ2_add_3_2
def dkwJ2_add_3_0 : List UInt8 := [42, 27, 182, 0, 135, 42, 89, 180, 0, 63, 4, 96, 181, 0, 63, 42, 180, 0, 48, 89, 62, 42]
abbrev dktJ2_add_3_0 : List UInt8 := dkwJ2_add_3_0 ++ dktJ2_add_3_1
theorem dksJ2_add_3_0 : cJ2_add_3.data.toList.drop 0 = dktJ2_add_3_0 := by decide +kernel
theorem dksJ2_add_3_1 : cJ2_add_3.data.toList.drop 22 = dktJ2_add_3_1 := dk_seg dksJ2_add_3_0 22 rfl rfl
theorem dksJ2_add_3_2 : cJ2_add_3.data.toList.drop 46 = dktJ2_add_3_2 := dk_seg dksJ2_add_3_1 24 rfl rfl
theorem dJ2_add_3_0 : decode cJ2_add_3 0 = .ok (.aload_n 0, 1) := dk_42 (dk_at dksJ2_add_3_0 0 rfl rfl)
theorem dJ2_add_3_1 : decode cJ2_add_3 1 = .ok (.iload_n 1, 1) := dk_27 (dk_at dksJ2_add_3_0 1 rfl rfl)
theorem dJ2_add_3_2 : decode cJ2_add_3 2 = .ok (.invokevirtual 135, 3) := dk_182 0 135 (dk_at dksJ2_add_3_0 2 rfl rfl)
theorem dJ2_add_3_5 : decode cJ2_add_3 5 = .ok (.aload_n 0, 1) := dk_42 (dk_at dksJ2_add_3_0 5 rfl rfl)
theorem dJ2_add_3_6 : decode cJ2_add_3 6 = .ok (.dup, 1) := dk_89 (dk_at dksJ2_add_3_0 6 rfl rfl)
theorem dJ2_add_3_7 : decode cJ2_add_3 7 = .ok (.getfield 63, 3) := dk_180 0 63 (dk_at dksJ2_add_3_0 7 rfl rfl)
theorem dJ2_add_3_10 : decode cJ2_add_3 10 = .ok (.iconst 1, 1) := dk_4 (dk_at dksJ2_add_3_0 10 rfl rfl)
theorem dJ2_add_3_11 : decode cJ2_add_3 11 = .ok (.iadd, 1) := dk_96 (dk_at dksJ2_add_3_0 11 rfl rfl)
theorem dJ2_add_3_12 : decode cJ2_add_3 12 = .ok (.putfield 63, 3) := dk_181 0 63 (dk_at dksJ2_add_3_0 12 rfl rfl)
theorem dJ2_add_3_15 : decode cJ2_add_3 15 = .ok (.aload_n 0, 1) := dk_42 (dk_at dksJ2_add_3_0 15 rfl rfl)
theorem dJ2_add_3_16 : decode cJ2_add_3 16 = .ok (.getfield 48, 3) := dk_180 0 48 (dk_at dksJ2_add_3_0 16 rfl rfl)
theorem dJ2_add_3_19 : decode cJ2_add_3 19 = .ok (.dup, 1) := dk_89 (dk_at dksJ2_add_3_0 19 rfl rfl)
theorem dJ2_add_3_20 : decode cJ2_add_3 20 = .ok (.istore_n 3, 1) := dk_62 (dk_at dksJ2_add_3_0 20 rfl rfl)
theorem dJ2_add_3_21 : decode cJ2_add_3 21 = .ok (.aload_n 0, 1) := dk_42 (dk_at dksJ2_add_3_0 21 rfl rfl)
theorem dJ2_add_3_22 : decode cJ2_add_3 22 = .ok (.getfield 9, 3) := dk_180 0 9 (dk_at dksJ2_add_3_1 0 rfl rfl)
theorem dJ2_add_3_25 : decode cJ2_add_3 25 = .ok (.dup, 1) := dk_89 (dk_at dksJ2_add_3_1 3 rfl rfl)
theorem dJ2_add_3_26 : decode cJ2_add_3 26 = .ok (.astore 4, 2) := dk_58 4 (dk_at dksJ2_add_3_1 4 rfl rfl)
theorem dJ2_add_3_28 : decode cJ2_add_3 28 = .ok (.arraylength, 1) := dk_190 (dk_at dksJ2_add_3_1 6 rfl rfl)
theorem dJ2_add_3_29 : decode cJ2_add_3 29 = .ok (.if_icmp .ne 9, 3) := dk_160 0 9 (dk_at dksJ2_add_3_1 7 rfl rfl)
theorem dJ2_add_3_32 : decode cJ2_add_3 32 = .ok (.aload_n 0, 1) := dk_42 (dk_at dksJ2_add_3_1 10 rfl rfl)
theorem dJ2_add_3_33 : decode cJ2_add_3 33 = .ok (.invokevirtual 129, 3) := dk_182 0 129 (dk_at dksJ2_add_3_1 11 rfl rfl)
theorem dJ2_add_3_36 : decode cJ2_add_3 36 = .ok (.astore 4, 2) := dk_58 4 (dk_at dksJ2_add_3_1 14 rfl rfl)
theorem dJ2_add_3_38 : decode cJ2_add_3 38 = .ok (.aload 4, 2) := dk_25 4 (dk_at dksJ2_add_3_1 16 rfl rfl)
theorem dJ2_add_3_40 : decode cJ2_add_3 40 = .ok (.iload_n 1, 1) := dk_27 (dk_at dksJ2_add_3_1 18 rfl rfl)
theorem dJ2_add_3_41 : decode cJ2_add_3 41 = .ok (.aload 4, 2) := dk_25 4 (dk_at dksJ2_add_3_1 19 rfl rfl)
theorem dJ2_add_3_43 : decode cJ2_add_3 43 = .ok (.iload_n 1, 1) := dk_27 (dk_at dksJ2_add_3_1 21 rfl rfl)
theorem dJ2_add_3_44 : decode cJ2_add_3 44 = .ok (.iconst 1, 1) := dk_4 (dk_at dksJ2_add_3_1 22 rfl rfl)
theorem dJ2_add_3_45 : decode cJ2_add_3 45 = .ok (.iadd, 1) := dk_96 (dk_at dksJ2_add_3_1 23 rfl rfl)
theorem dJ2_add_3_46 : decode cJ2_add_3 46 = .ok (.iload_n 3, 1) := dk_29 (dk_at dksJ2_add_3_2 0 rfl rfl)
theorem dJ2_add_3_47 : decode cJ2_add_3 47 = .ok (.iload_n 1, 1) := dk_27 (dk_at dksJ2_add_3_2 1 rfl rfl)
theorem dJ2_add_3_48 : decode cJ2_add_3 48 = .ok (.isub, 1) := dk_100 (dk_at dksJ2_add_3_2 2 rfl rfl)
theorem dJ2_add_3_49 : decode cJ2_add_3 49 = .ok (.invokestatic 112, 3) := dk_184 0 112 (dk_at dksJ2_add_3_2 3 rfl rfl)
theorem dJ2_add_3_52 : decode cJ2_add_3 52 = .ok (.aload 4, 2) := dk_25 4 (dk_at dksJ2_add_3_2 6 rfl rfl)
theorem dJ2_add_3_54 : decode cJ2_add_3 54 = .ok (.iload_n 1, 1) := dk_27 (dk_at dksJ2_add_3_2 8 rfl rfl)
theorem dJ2_add_3_55 : decode cJ2_add_3 55 = .ok (.aload_n 2, 1) := dk_44 (dk_at dksJ2_add_3_2 9 rfl rfl)
theorem dJ2_add_3_56 : decode cJ2_add_3 56 = .ok (.aastore, 1) := dk_83 (dk_at dksJ2_add_3_2 10 rfl rfl)
theorem dJ2_add_3_57 : decode cJ2_add_3 57 = .ok (.aload_n 0, 1) := dk_42 (dk_at dksJ2_add_3_2 11 rfl rfl)
theorem dJ2_add_3_58 : decode cJ2_add_3 58 = .ok (.iload_n 3, 1) := dk_29 (dk_at dksJ2_add_3_2 12 rfl rfl)
theorem dJ2_add_3_59 : decode cJ2_add_3 59 = .ok (.iconst 1, 1) := dk_4 (dk_at dksJ2_add_3_2 13 rfl rfl)
theorem dJ2_add_3_60 : decode cJ2_add_3 60 = .ok (.iadd, 1) := dk_96 (dk_at dksJ2_add_3_2 14 rfl rfl)
theorem dJ2_add_3_61 : decode cJ2_add_3 61 = .ok (.putfield 48, 3) := dk_181 0 48 (dk_at dksJ2_add_3_2 15 rfl rfl)
theorem dJ2_add_3_64 : decode cJ2_add_3 64 = .ok (.return_, 1) := dk_177 (dk_at dksJ2_add_3_2 18 rfl rfl)
abbrev cJ2_rangeCheckForAdd : ByteArray := prog_22_method_45_code
def yJ2_rangeCheckForAdd : MethodName := ⟨RJ2, "rangeCheckForAdd", "(I)V"⟩
def dkwJ2_rangeCheckForAdd_1 : List UInt8 := [191, 177]
abbrev dktJ2_rangeCheckForAdd_1 : List UInt8 := dkwJ2_rangeCheckForAdd_1 ++ []
def dkwJ2_rangeCheckForAdd_0 : List UInt8 := [27, 42, 180, 0, 48, 163, 0, 7, 27, 156, 0, 16, 187, 0, 187, 89, 42, 27, 182, 0, 198, 183, 0, 193]
abbrev dktJ2_rangeCheckForAdd_0 : List UInt8 := dkwJ2_rangeCheckForAdd_0 ++ dktJ2_rangeCheckForAdd_1
theorem dksJ2_rangeCheckForAdd_0 : cJ2_rangeCheckForAdd.data.toList.drop 0 = dktJ2_rangeCheckForAdd_0 := by decide +kernel
theorem dksJ2_rangeCheckForAdd_1 : cJ2_rangeCheckForAdd.data.toList.drop 24 = dktJ2_rangeCheckForAdd_1 := dk_seg dksJ2_rangeCheckForAdd_0 24 rfl rfl
theorem dJ2_rangeCheckForAdd_0 : decode cJ2_rangeCheckForAdd 0 = .ok (.iload_n 1, 1) := dk_27 (dk_at dksJ2_rangeCheckForAdd_0 0 rfl rfl)
theorem dJ2_rangeCheckForAdd_1 : decode cJ2_rangeCheckForAdd 1 = .ok (.aload_n 0, 1) := dk_42 (dk_at dksJ2_rangeCheckForAdd_0 1 rfl rfl)
theorem dJ2_rangeCheckForAdd_2 : decode cJ2_rangeCheckForAdd 2 = .ok (.getfield 48, 3) := dk_180 0 48 (dk_at dksJ2_rangeCheckForAdd_0 2 rfl rfl)
theorem dJ2_rangeCheckForAdd_5 : decode cJ2_rangeCheckForAdd 5 = .ok (.if_icmp .gt 7, 3) := dk_163 0 7 (dk_at dksJ2_rangeCheckForAdd_0 5 rfl rfl)
theorem dJ2_rangeCheckForAdd_8 : decode cJ2_rangeCheckForAdd 8 = .ok (.iload_n 1, 1) := dk_27 (dk_at dksJ2_rangeCheckForAdd_0 8 rfl rfl)
theorem dJ2_rangeCheckForAdd_9 : decode cJ2_rangeCheckForAdd 9 = .ok (.ifCond .ge 16, 3) := dk_156 0 16 (dk_at dksJ2_rangeCheckForAdd_0 9 rfl rfl)
theorem dJ2_rangeCheckForAdd_12 : decode cJ2_rangeCheckForAdd 12 = .ok (.new 187, 3) := dk_187 0 187 (dk_at dksJ2_rangeCheckForAdd_0 12 rfl rfl)
theorem dJ2_rangeCheckForAdd_15 : decode cJ2_rangeCheckForAdd 15 = .ok (.dup, 1) := dk_89 (dk_at dksJ2_rangeCheckForAdd_0 15 rfl rfl)
theorem dJ2_rangeCheckForAdd_16 : decode cJ2_rangeCheckForAdd 16 = .ok (.aload_n 0, 1) := dk_42 (dk_at dksJ2_rangeCheckForAdd_0 16 rfl rfl)
theorem dJ2_rangeCheckForAdd_17 : decode cJ2_rangeCheckForAdd 17 = .ok (.iload_n 1, 1) := dk_27 (dk_at dksJ2_rangeCheckForAdd_0 17 rfl rfl)
theorem dJ2_rangeCheckForAdd_18 : decode cJ2_rangeCheckForAdd 18 = .ok (.invokevirtual 198, 3) := dk_182 0 198 (dk_at dksJ2_rangeCheckForAdd_0 18 rfl rfl)
theorem dJ2_rangeCheckForAdd_21 : decode cJ2_rangeCheckForAdd 21 = .ok (.invokespecial 193, 3) := dk_183 0 193 (dk_at dksJ2_rangeCheckForAdd_0 21 rfl rfl)
theorem dJ2_rangeCheckForAdd_24 : decode cJ2_rangeCheckForAdd 24 = .ok (.athrow, 1) := dk_191 (dk_at dksJ2_rangeCheckForAdd_1 0 rfl rfl)
theorem dJ2_rangeCheckForAdd_25 : decode cJ2_rangeCheckForAdd 25 = .ok (.return_, 1) := dk_177 (dk_at dksJ2_rangeCheckForAdd_1 1 rfl rfl)
theorem q62 : (Jvm.Cond.initialized "java/util/ArrayList") ∈ lw_all := lw_g (lw_at lw_m1 4 rfl) rfl
theorem q89 : (Jvm.Cond.instantiable "java/util/ArrayList" (3 : Nat)) ∈ lw_all := lw_g (lw_at lw_m1 31 rfl) rfl
theorem q91 : (Jvm.Cond.instanceMethod ({ cls := "java/util/ArrayList", name := "<init>", desc := "(I)V" } : Jvm.MethodName)) ∈ lw_all := lw_g (lw_at lw_m1 33 rfl) rfl
theorem q92 : (Jvm.Cond.code ({ cls := "java/util/ArrayList", name := "<init>", desc := "(I)V" } : Jvm.MethodName) prog_22_method_1_code (2 : Nat) (Option.none : Option Jvm.ClassFile.FieldType)) ∈ lw_all := lw_g (lw_at lw_m1 34 rfl) rfl
theorem q93 : (Jvm.Cond.methodLink "java/util/ArrayList" (1 : Nat) ({ cls := "java/util/AbstractList", name := "<init>", desc := "()V" } : Jvm.MethodName)) ∈ lw_all := lw_g (lw_at lw_m1 35 rfl) rfl
theorem q100 : (Jvm.Cond.classLink "java/util/ArrayList" (7 : Nat) "java/lang/Object") ∈ lw_all := lw_g (lw_at lw_m1 42 rfl) rfl
theorem q102 : (Jvm.Cond.fieldLink "java/util/ArrayList" (15 : Nat) "java/util/ArrayList" "EMPTY_ELEMENTDATA" "[Ljava/lang/Object;") ∈ lw_all := lw_g (lw_at lw_m1 44 rfl) rfl
theorem q103 : (Jvm.Cond.laysStatic "java/util/ArrayList" "EMPTY_ELEMENTDATA" "[Ljava/lang/Object;") ∈ lw_tbl := lw_at lw_m1 45 rfl
theorem q104 : (Jvm.Cond.fieldLink "java/util/ArrayList" (9 : Nat) "java/util/ArrayList" "elementData" "[Ljava/lang/Object;") ∈ lw_all := lw_g (lw_at lw_m1 46 rfl) rfl
theorem q107 : (Jvm.Cond.fieldLink "java/util/ArrayList" (48 : Nat) "java/util/ArrayList" "size" "I") ∈ lw_all := lw_g (lw_at lw_m1 49 rfl) rfl
theorem q110 : (Jvm.Cond.sameField "java/util/ArrayList" "java/util/AbstractList" "modCount" "I") ∈ lw_all := lw_g (lw_at lw_m1 52 rfl) rfl
theorem q111 : (Jvm.Cond.fieldLink "java/util/ArrayList" (63 : Nat) "java/util/ArrayList" "modCount" "I") ∈ lw_all := lw_g (lw_at lw_m1 53 rfl) rfl
theorem q112 : (Jvm.Cond.lays "java/util/ArrayList" "java/util/ArrayList" "elementData" "[Ljava/lang/Object;") ∈ lw_all := lw_g (lw_at lw_m1 54 rfl) rfl
theorem q113 : (Jvm.Cond.soleField "java/util/ArrayList" "elementData") ∈ lw_all := lw_g (lw_at lw_m1 55 rfl) rfl
theorem q114 : (Jvm.Cond.lays "java/util/ArrayList" "java/util/ArrayList" "size" "I") ∈ lw_all := lw_g (lw_at lw_m1 56 rfl) rfl
theorem q115 : (Jvm.Cond.soleField "java/util/ArrayList" "size") ∈ lw_all := lw_g (lw_at lw_m1 57 rfl) rfl
theorem q116 : (Jvm.Cond.lays "java/util/ArrayList" "java/util/AbstractList" "modCount" "I") ∈ lw_all := lw_g (lw_at lw_m1 58 rfl) rfl
theorem q118 : (Jvm.Cond.superclass "java/util/ArrayList" "java/util/AbstractList") ∈ lw_all := lw_g (lw_at lw_m1 60 rfl) rfl
theorem q155 : (Jvm.Cond.castable "java/util/ArrayList" "java/util/List") ∈ lw_tbl := lw_at lw_m1 97 rfl
theorem q156 : (Jvm.Cond.selects "java/util/ArrayList" ({ cls := "java/util/List", name := "size", desc := "()I" } : Jvm.MethodName) ({ cls := "java/util/ArrayList", name := "size", desc := "()I" } : Jvm.MethodName)) ∈ lw_all := lw_g (lw_at lw_m1 98 rfl) rfl
theorem q157 : (Jvm.Cond.unhidden "java/util/ArrayList" "size" "()I") ∈ lw_tbl := lw_at lw_m1 99 rfl
theorem q158 : (Jvm.Cond.instanceMethod ({ cls := "java/util/ArrayList", name := "size", desc := "()I" } : Jvm.MethodName)) ∈ lw_all := lw_g (lw_at lw_m1 100 rfl) rfl
theorem q159 : (Jvm.Cond.publicMethod ({ cls := "java/util/ArrayList", name := "size", desc := "()I" } : Jvm.MethodName)) ∈ lw_tbl := lw_at lw_m1 101 rfl
theorem q160 : (Jvm.Cond.code ({ cls := "java/util/ArrayList", name := "size", desc := "()I" } : Jvm.MethodName) prog_22_method_8_code (1 : Nat) (Option.some Jvm.ClassFile.FieldType.int)) ∈ lw_all := lw_g (lw_at lw_m1 102 rfl) rfl
theorem q273 : (Jvm.Cond.selects "java/util/ArrayList" ({ cls := "java/util/List", name := "iterator", desc := "()Ljava/util/Iterator;" } : Jvm.MethodName) ({ cls := "java/util/ArrayList", name := "iterator", desc := "()Ljava/util/Iterator;" } : Jvm.MethodName)) ∈ lw_all := lw_g (lw_at lw_m1 215 rfl) rfl
theorem q274 : (Jvm.Cond.unhidden "java/util/ArrayList" "iterator" "()Ljava/util/Iterator;") ∈ lw_tbl := lw_at lw_m1 216 rfl
theorem q275 : (Jvm.Cond.instanceMethod ({ cls := "java/util/ArrayList", name := "iterator", desc := "()Ljava/util/Iterator;" } : Jvm.MethodName)) ∈ lw_all := lw_g (lw_at lw_m1 217 rfl) rfl
theorem q276 : (Jvm.Cond.publicMethod ({ cls := "java/util/ArrayList", name := "iterator", desc := "()Ljava/util/Iterator;" } : Jvm.MethodName)) ∈ lw_tbl := lw_at lw_m1 218 rfl
theorem q277 : (Jvm.Cond.code ({ cls := "java/util/ArrayList", name := "iterator", desc := "()Ljava/util/Iterator;" } : Jvm.MethodName) prog_22_method_55_code (1 : Nat) (Option.some (Jvm.ClassFile.FieldType.object "java/util/Iterator"))) ∈ lw_all := lw_g (lw_at lw_m1 219 rfl) rfl
theorem q278 : (Jvm.Cond.classLink "java/util/ArrayList" (267 : Nat) "java/util/ArrayList$Itr") ∈ lw_all := lw_g (lw_at lw_m1 220 rfl) rfl
theorem q280 : (Jvm.Cond.methodLink "java/util/ArrayList" (269 : Nat) ({ cls := "java/util/ArrayList$Itr", name := "<init>", desc := "(Ljava/util/ArrayList;)V" } : Jvm.MethodName)) ∈ lw_all := lw_g (lw_at lw_m1 222 rfl) rfl
theorem q354 : (Jvm.Cond.selects "java/util/ArrayList" ({ cls := "java/util/List", name := "get", desc := "(I)Ljava/lang/Object;" } : Jvm.MethodName) ({ cls := "java/util/ArrayList", name := "get", desc := "(I)Ljava/lang/Object;" } : Jvm.MethodName)) ∈ lw_all := lw_g (lw_at lw_m2 56 rfl) rfl
theorem q355 : (Jvm.Cond.unhidden "java/util/ArrayList" "get" "(I)Ljava/lang/Object;") ∈ lw_tbl := lw_at lw_m2 57 rfl
theorem q356 : (Jvm.Cond.instanceMethod ({ cls := "java/util/ArrayList", name := "get", desc := "(I)Ljava/lang/Object;" } : Jvm.MethodName)) ∈ lw_all := lw_g (lw_at lw_m2 58 rfl) rfl
theorem q357 : (Jvm.Cond.publicMethod ({ cls := "java/util/ArrayList", name := "get", desc := "(I)Ljava/lang/Object;" } : Jvm.MethodName)) ∈ lw_tbl := lw_at lw_m2 59 rfl
theorem q358 : (Jvm.Cond.code ({ cls := "java/util/ArrayList", name := "get", desc := "(I)Ljava/lang/Object;" } : Jvm.MethodName) prog_22_method_20_code (2 : Nat) (Option.some (Jvm.ClassFile.FieldType.object "java/lang/Object"))) ∈ lw_all := lw_g (lw_at lw_m2 60 rfl) rfl
theorem q359 : (Jvm.Cond.methodLink "java/util/ArrayList" (118 : Nat) ({ cls := "java/util/Objects", name := "checkIndex", desc := "(II)I" } : Jvm.MethodName)) ∈ lw_all := lw_g (lw_at lw_m2 61 rfl) rfl
theorem q365 : (Jvm.Cond.methodLink "java/util/ArrayList" (123 : Nat) ({ cls := "java/util/ArrayList", name := "elementData", desc := "(I)Ljava/lang/Object;" } : Jvm.MethodName)) ∈ lw_all := lw_g (lw_at lw_m2 67 rfl) rfl
theorem q366 : (Jvm.Cond.instanceMethod ({ cls := "java/util/ArrayList", name := "elementData", desc := "(I)Ljava/lang/Object;" } : Jvm.MethodName)) ∈ lw_all := lw_g (lw_at lw_m2 68 rfl) rfl
theorem q367 : (Jvm.Cond.selects "java/util/ArrayList" ({ cls := "java/util/ArrayList", name := "elementData", desc := "(I)Ljava/lang/Object;" } : Jvm.MethodName) ({ cls := "java/util/ArrayList", name := "elementData", desc := "(I)Ljava/lang/Object;" } : Jvm.MethodName)) ∈ lw_all := lw_g (lw_at lw_m2 69 rfl) rfl
theorem q368 : (Jvm.Cond.code ({ cls := "java/util/ArrayList", name := "elementData", desc := "(I)Ljava/lang/Object;" } : Jvm.MethodName) prog_22_method_18_code (2 : Nat) (Option.some (Jvm.ClassFile.FieldType.object "java/lang/Object"))) ∈ lw_all := lw_g (lw_at lw_m2 70 rfl) rfl
theorem q449 : (Jvm.Cond.selects "java/util/ArrayList" ({ cls := "java/util/List", name := "add", desc := "(Ljava/lang/Object;)Z" } : Jvm.MethodName) ({ cls := "java/util/ArrayList", name := "add", desc := "(Ljava/lang/Object;)Z" } : Jvm.MethodName)) ∈ lw_all := lw_g (lw_at lw_m2 151 rfl) rfl
theorem q450 : (Jvm.Cond.unhidden "java/util/ArrayList" "add" "(Ljava/lang/Object;)Z") ∈ lw_tbl := lw_at lw_m2 152 rfl
theorem q451 : (Jvm.Cond.instanceMethod ({ cls := "java/util/ArrayList", name := "add", desc := "(Ljava/lang/Object;)Z" } : Jvm.MethodName)) ∈ lw_all := lw_g (lw_at lw_m2 153 rfl) rfl
theorem q452 : (Jvm.Cond.publicMethod ({ cls := "java/util/ArrayList", name := "add", desc := "(Ljava/lang/Object;)Z" } : Jvm.MethodName)) ∈ lw_tbl := lw_at lw_m2 154 rfl
theorem q453 : (Jvm.Cond.code ({ cls := "java/util/ArrayList", name := "add", desc := "(Ljava/lang/Object;)Z" } : Jvm.MethodName) prog_22_method_25_code (2 : Nat) (Option.some Jvm.ClassFile.FieldType.boolean)) ∈ lw_all := lw_g (lw_at lw_m2 155 rfl) rfl
theorem q454 : (Jvm.Cond.methodLink "java/util/ArrayList" (131 : Nat) ({ cls := "java/util/ArrayList", name := "add", desc := "(Ljava/lang/Object;[Ljava/lang/Object;I)V" } : Jvm.MethodName)) ∈ lw_all := lw_g (lw_at lw_m2 156 rfl) rfl
theorem q455 : (Jvm.Cond.privateMethod ({ cls := "java/util/ArrayList", name := "add", desc := "(Ljava/lang/Object;[Ljava/lang/Object;I)V" } : Jvm.MethodName)) ∈ lw_tbl := lw_at lw_m2 157 rfl
theorem q456 : (Jvm.Cond.instanceMethod ({ cls := "java/util/ArrayList", name := "add", desc := "(Ljava/lang/Object;[Ljava/lang/Object;I)V" } : Jvm.MethodName)) ∈ lw_all := lw_g (lw_at lw_m2 158 rfl) rfl
theorem q457 : (Jvm.Cond.code ({ cls := "java/util/ArrayList", name := "add", desc := "(Ljava/lang/Object;[Ljava/lang/Object;I)V" } : Jvm.MethodName) prog_22_method_24_code (4 : Nat) (Option.none : Option Jvm.ClassFile.FieldType)) ∈ lw_all := lw_g (lw_at lw_m2 159 rfl) rfl
theorem q458 : (Jvm.Cond.methodLink "java/util/ArrayList" (129 : Nat) ({ cls := "java/util/ArrayList", name := "grow", desc := "()[Ljava/lang/Object;" } : Jvm.MethodName)) ∈ lw_all := lw_g (lw_at lw_m2 160 rfl) rfl
theorem q459 : (Jvm.Cond.privateMethod ({ cls := "java/util/ArrayList", name := "grow", desc := "()[Ljava/lang/Object;" } : Jvm.MethodName)) ∈ lw_tbl := lw_at lw_m2 161 rfl
theorem q460 : (Jvm.Cond.instanceMethod ({ cls := "java/util/ArrayList", name := "grow", desc := "()[Ljava/lang/Object;" } : Jvm.MethodName)) ∈ lw_all := lw_g (lw_at lw_m2 162 rfl) rfl
theorem q461 : (Jvm.Cond.code ({ cls := "java/util/ArrayList", name := "grow", desc := "()[Ljava/lang/Object;" } : Jvm.MethodName) prog_22_method_7_code (1 : Nat) (Option.some (Jvm.ClassFile.FieldType.array (Jvm.ClassFile.FieldType.object "java/lang/Object")))) ∈ lw_all := lw_g (lw_at lw_m2 163 rfl) rfl
theorem q462 : (Jvm.Cond.methodLink "java/util/ArrayList" (69 : Nat) ({ cls := "java/util/ArrayList", name := "grow", desc := "(I)[Ljava/lang/Object;" } : Jvm.MethodName)) ∈ lw_all := lw_g (lw_at lw_m2 164 rfl) rfl
theorem q463 : (Jvm.Cond.privateMethod ({ cls := "java/util/ArrayList", name := "grow", desc := "(I)[Ljava/lang/Object;" } : Jvm.MethodName)) ∈ lw_tbl := lw_at lw_m2 165 rfl
theorem q464 : (Jvm.Cond.instanceMethod ({ cls := "java/util/ArrayList", name := "grow", desc := "(I)[Ljava/lang/Object;" } : Jvm.MethodName)) ∈ lw_all := lw_g (lw_at lw_m2 166 rfl) rfl
theorem q465 : (Jvm.Cond.code ({ cls := "java/util/ArrayList", name := "grow", desc := "(I)[Ljava/lang/Object;" } : Jvm.MethodName) prog_22_method_6_code (4 : Nat) (Option.some (Jvm.ClassFile.FieldType.array (Jvm.ClassFile.FieldType.object "java/lang/Object")))) ∈ lw_all := lw_g (lw_at lw_m2 167 rfl) rfl
theorem q466 : (Jvm.Cond.fieldLink "java/util/ArrayList" (39 : Nat) "java/util/ArrayList" "DEFAULTCAPACITY_EMPTY_ELEMENTDATA" "[Ljava/lang/Object;") ∈ lw_all := lw_g (lw_at lw_m2 168 rfl) rfl
theorem q467 : (Jvm.Cond.laysStatic "java/util/ArrayList" "DEFAULTCAPACITY_EMPTY_ELEMENTDATA" "[Ljava/lang/Object;") ∈ lw_tbl := lw_at lw_m2 169 rfl
theorem q468 : (Jvm.Cond.methodLink "java/util/ArrayList" (73 : Nat) ({ cls := "jdk/internal/util/ArraysSupport", name := "newLength", desc := "(III)I" } : Jvm.MethodName)) ∈ lw_all := lw_g (lw_at lw_m2 170 rfl) rfl
theorem q478 : (Jvm.Cond.methodLink "java/util/ArrayList" (66 : Nat) ({ cls := "java/util/Arrays", name := "copyOf", desc := "([Ljava/lang/Object;I)[Ljava/lang/Object;" } : Jvm.MethodName)) ∈ lw_all := lw_g (lw_at lw_m2 180 rfl) rfl
theorem q495 : (Jvm.Cond.selects "java/util/ArrayList" ({ cls := "java/lang/Object", name := "getClass", desc := "()Ljava/lang/Class;" } : Jvm.MethodName) ({ cls := "java/lang/Object", name := "getClass", desc := "()Ljava/lang/Class;" } : Jvm.MethodName)) ∈ lw_all := lw_g (lw_at lw_m2 197 rfl) rfl
theorem q509 : (Jvm.Cond.methodLink "java/util/ArrayList" (79 : Nat) ({ cls := "java/lang/Math", name := "max", desc := "(II)I" } : Jvm.MethodName)) ∈ lw_all := lw_g (lw_at lw_m2 211 rfl) rfl
theorem q574 : (Jvm.Cond.selects "java/util/ArrayList" ({ cls := "java/util/List", name := "isEmpty", desc := "()Z" } : Jvm.MethodName) ({ cls := "java/util/ArrayList", name := "isEmpty", desc := "()Z" } : Jvm.MethodName)) ∈ lw_all := lw_g (lw_at lw_m3 36 rfl) rfl
theorem q575 : (Jvm.Cond.unhidden "java/util/ArrayList" "isEmpty" "()Z") ∈ lw_tbl := lw_at lw_m3 37 rfl
theorem q576 : (Jvm.Cond.instanceMethod ({ cls := "java/util/ArrayList", name := "isEmpty", desc := "()Z" } : Jvm.MethodName)) ∈ lw_all := lw_g (lw_at lw_m3 38 rfl) rfl
theorem q577 : (Jvm.Cond.publicMethod ({ cls := "java/util/ArrayList", name := "isEmpty", desc := "()Z" } : Jvm.MethodName)) ∈ lw_tbl := lw_at lw_m3 39 rfl
theorem q578 : (Jvm.Cond.code ({ cls := "java/util/ArrayList", name := "isEmpty", desc := "()Z" } : Jvm.MethodName) prog_22_method_9_code (1 : Nat) (Option.some Jvm.ClassFile.FieldType.boolean)) ∈ lw_all := lw_g (lw_at lw_m3 40 rfl) rfl
theorem q583 : (Jvm.Cond.selects "java/util/ArrayList" ({ cls := "java/util/List", name := "remove", desc := "(I)Ljava/lang/Object;" } : Jvm.MethodName) ({ cls := "java/util/ArrayList", name := "remove", desc := "(I)Ljava/lang/Object;" } : Jvm.MethodName)) ∈ lw_all := lw_g (lw_at lw_m3 45 rfl) rfl
theorem q584 : (Jvm.Cond.unhidden "java/util/ArrayList" "remove" "(I)Ljava/lang/Object;") ∈ lw_tbl := lw_at lw_m3 46 rfl
theorem q585 : (Jvm.Cond.instanceMethod ({ cls := "java/util/ArrayList", name := "remove", desc := "(I)Ljava/lang/Object;" } : Jvm.MethodName)) ∈ lw_all := lw_g (lw_at lw_m3 47 rfl) rfl
theorem q586 : (Jvm.Cond.publicMethod ({ cls := "java/util/ArrayList", name := "remove", desc := "(I)Ljava/lang/Object;" } : Jvm.MethodName)) ∈ lw_tbl := lw_at lw_m3 48 rfl
theorem q587 : (Jvm.Cond.code ({ cls := "java/util/ArrayList", name := "remove", desc := "(I)Ljava/lang/Object;" } : Jvm.MethodName) prog_22_method_29_code (4 : Nat) (Option.some (Jvm.ClassFile.FieldType.object "java/lang/Object"))) ∈ lw_all := lw_g (lw_at lw_m3 49 rfl) rfl
theorem q588 : (Jvm.Cond.methodLink "java/util/ArrayList" (144 : Nat) ({ cls := "java/util/ArrayList", name := "fastRemove", desc := "([Ljava/lang/Object;I)V" } : Jvm.MethodName)) ∈ lw_all := lw_g (lw_at lw_m3 50 rfl) rfl
theorem q589 : (Jvm.Cond.privateMethod ({ cls := "java/util/ArrayList", name := "fastRemove", desc := "([Ljava/lang/Object;I)V" } : Jvm.MethodName)) ∈ lw_tbl := lw_at lw_m3 51 rfl
theorem q590 : (Jvm.Cond.instanceMethod ({ cls := "java/util/ArrayList", name := "fastRemove", desc := "([Ljava/lang/Object;I)V" } : Jvm.MethodName)) ∈ lw_all := lw_g (lw_at lw_m3 52 rfl) rfl
theorem q591 : (Jvm.Cond.code ({ cls := "java/util/ArrayList", name := "fastRemove", desc := "([Ljava/lang/Object;I)V" } : Jvm.MethodName) prog_22_method_39_code (4 : Nat) (Option.none : Option Jvm.ClassFile.FieldType)) ∈ lw_all := lw_g (lw_at lw_m3 53 rfl) rfl
theorem q592 : (Jvm.Cond.methodLink "java/util/ArrayList" (112 : Nat) ({ cls := "java/lang/System", name := "arraycopy", desc := "(Ljava/lang/Object;ILjava/lang/Object;II)V" } : Jvm.MethodName)) ∈ lw_all := lw_g (lw_at lw_m3 54 rfl) rfl
theorem q605 : (Jvm.Cond.selects "java/util/ArrayList" ({ cls := "java/util/List", name := "clear", desc := "()V" } : Jvm.MethodName) ({ cls := "java/util/ArrayList", name := "clear", desc := "()V" } : Jvm.MethodName)) ∈ lw_all := lw_g (lw_at lw_m3 67 rfl) rfl
theorem q606 : (Jvm.Cond.unhidden "java/util/ArrayList" "clear" "()V") ∈ lw_tbl := lw_at lw_m3 68 rfl
theorem q607 : (Jvm.Cond.instanceMethod ({ cls := "java/util/ArrayList", name := "clear", desc := "()V" } : Jvm.MethodName)) ∈ lw_all := lw_g (lw_at lw_m3 69 rfl) rfl
theorem q608 : (Jvm.Cond.publicMethod ({ cls := "java/util/ArrayList", name := "clear", desc := "()V" } : Jvm.MethodName)) ∈ lw_tbl := lw_at lw_m3 70 rfl
theorem q609 : (Jvm.Cond.code ({ cls := "java/util/ArrayList", name := "clear", desc := "()V" } : Jvm.MethodName) prog_22_method_40_code (4 : Nat) (Option.none : Option Jvm.ClassFile.FieldType)) ∈ lw_all := lw_g (lw_at lw_m3 71 rfl) rfl
theorem q749 : (Jvm.Cond.selects "java/util/ArrayList" ({ cls := "java/util/List", name := "add", desc := "(ILjava/lang/Object;)V" } : Jvm.MethodName) ({ cls := "java/util/ArrayList", name := "add", desc := "(ILjava/lang/Object;)V" } : Jvm.MethodName)) ∈ lw_all := lw_g (lw_at lw_m3 211 rfl) rfl
theorem q750 : (Jvm.Cond.unhidden "java/util/ArrayList" "add" "(ILjava/lang/Object;)V") ∈ lw_tbl := lw_at lw_m3 212 rfl
theorem q751 : (Jvm.Cond.instanceMethod ({ cls := "java/util/ArrayList", name := "add", desc := "(ILjava/lang/Object;)V" } : Jvm.MethodName)) ∈ lw_all := lw_g (lw_at lw_m3 213 rfl) rfl
theorem q752 : (Jvm.Cond.publicMethod ({ cls := "java/util/ArrayList", name := "add", desc := "(ILjava/lang/Object;)V" } : Jvm.MethodName)) ∈ lw_tbl := lw_at lw_m3 214 rfl
theorem q753 : (Jvm.Cond.code ({ cls := "java/util/ArrayList", name := "add", desc := "(ILjava/lang/Object;)V" } : Jvm.MethodName) prog_22_method_26_code (5 : Nat) (Option.none : Option Jvm.ClassFile.FieldType)) ∈ lw_all := lw_g (lw_at lw_m3 215 rfl) rfl
theorem q754 : (Jvm.Cond.methodLink "java/util/ArrayList" (135 : Nat) ({ cls := "java/util/ArrayList", name := "rangeCheckForAdd", desc := "(I)V" } : Jvm.MethodName)) ∈ lw_all := lw_g (lw_at lw_m3 216 rfl) rfl
theorem q755 : (Jvm.Cond.privateMethod ({ cls := "java/util/ArrayList", name := "rangeCheckForAdd", desc := "(I)V" } : Jvm.MethodName)) ∈ lw_tbl := lw_at lw_m3 217 rfl
theorem q756 : (Jvm.Cond.instanceMethod ({ cls := "java/util/ArrayList", name := "rangeCheckForAdd", desc := "(I)V" } : Jvm.MethodName)) ∈ lw_all := lw_g (lw_at lw_m3 218 rfl) rfl
theorem q757 : (Jvm.Cond.code ({ cls := "java/util/ArrayList", name := "rangeCheckForAdd", desc := "(I)V" } : Jvm.MethodName) prog_22_method_45_code (2 : Nat) (Option.none : Option Jvm.ClassFile.FieldType)) ∈ lw_all := lw_g (lw_at lw_m3 219 rfl) rfl
theorem q972 : (Jvm.Cond.castable "java/util/ArrayList" "java/lang/Iterable") ∈ lw_tbl := lw_at lw_m4 194 rfl
theorem q973 : (Jvm.Cond.selects "java/util/ArrayList" ({ cls := "java/lang/Iterable", name := "iterator", desc := "()Ljava/util/Iterator;" } : Jvm.MethodName) ({ cls := "java/util/ArrayList", name := "iterator", desc := "()Ljava/util/Iterator;" } : Jvm.MethodName)) ∈ lw_all := lw_g (lw_at lw_m4 195 rfl) rfl
theorem q1362 : (Jvm.Cond.castable "java/util/ArrayList" "java/lang/Object") ∈ lw_tbl := lw_at lw_m6 104 rfl
theorem in_J2 : ∀ w ∈ wsJ20, w ∈ lw_all := lw_in wsJ20 [116, 112, 114] (by decide +kernel) (by decide +kernel)
/-! java/util/ArrayList$Itr -/
set_option maxRecDepth 100000
def RJ3 : String := "java/util/ArrayList$Itr"
def TJ3 : u_T := fun k => match k with
  | 0 => ("java/util/ArrayList$Itr", "cursor", "I", false)
  | 1 => ("java/util/ArrayList$Itr", "lastRet", "I", false)
  | 2 => ("java/util/ArrayList$Itr", "expectedModCount", "I", false)
  | _ => ("java/util/ArrayList$Itr", "this$0", "Ljava/util/ArrayList;", true)
def tyJ3 : Nat → FieldType := fun k => match k with
  | 0 => .int
  | 1 => .int
  | 2 => .int
  | _ => .object "java/util/ArrayList"
abbrev wsJ30 : List Cond := u_ws RJ3 TJ3 4
theorem nmJ3 : ∀ a, a < 4 → ∀ b, b < 4 → a ≠ b → (TJ3 a).2.1 ≠ (TJ3 b).2.1 := by decide +kernel
theorem tyJ3_ok : ∀ k, k < 4 → parseFieldDescriptor (TJ3 k).2.2.1 = some (tyJ3 k) := by decide +kernel
abbrev cJ3_init : ByteArray := prog_23_method_1_code
def yJ3_init : MethodName := ⟨RJ3, "<init>", "(Ljava/util/ArrayList;)V"⟩
def dkwJ3_init_1 : List UInt8 := [181, 0, 22, 177]
abbrev dktJ3_init_1 : List UInt8 := dkwJ3_init_1 ++ []
def dkwJ3_init_0 : List UInt8 := [42, 43, 181, 0, 1, 42, 183, 0, 7, 42, 2, 181, 0, 13, 42, 42, 180, 0, 1, 180, 0, 17]
abbrev dktJ3_init_0 : List UInt8 := dkwJ3_init_0 ++ dktJ3_init_1
theorem dksJ3_init_0 : cJ3_init.data.toList.drop 0 = dktJ3_init_0 := by decide +kernel
theorem dksJ3_init_1 : cJ3_init.data.toList.drop 22 = dktJ3_init_1 := dk_seg dksJ3_init_0 22 rfl rfl
theorem dJ3_init_0 : decode cJ3_init 0 = .ok (.aload_n 0, 1) := dk_42 (dk_at dksJ3_init_0 0 rfl rfl)
theorem dJ3_init_1 : decode cJ3_init 1 = .ok (.aload_n 1, 1) := dk_43 (dk_at dksJ3_init_0 1 rfl rfl)
theorem dJ3_init_2 : decode cJ3_init 2 = .ok (.putfield 1, 3) := dk_181 0 1 (dk_at dksJ3_init_0 2 rfl rfl)
theorem dJ3_init_5 : decode cJ3_init 5 = .ok (.aload_n 0, 1) := dk_42 (dk_at dksJ3_init_0 5 rfl rfl)
theorem dJ3_init_6 : decode cJ3_init 6 = .ok (.invokespecial 7, 3) := dk_183 0 7 (dk_at dksJ3_init_0 6 rfl rfl)
theorem dJ3_init_9 : decode cJ3_init 9 = .ok (.aload_n 0, 1) := dk_42 (dk_at dksJ3_init_0 9 rfl rfl)
theorem dJ3_init_10 : decode cJ3_init 10 = .ok (.iconst (-1), 1) := dk_2 (dk_at dksJ3_init_0 10 rfl rfl)
theorem dJ3_init_11 : decode cJ3_init 11 = .ok (.putfield 13, 3) := dk_181 0 13 (dk_at dksJ3_init_0 11 rfl rfl)
theorem dJ3_init_14 : decode cJ3_init 14 = .ok (.aload_n 0, 1) := dk_42 (dk_at dksJ3_init_0 14 rfl rfl)
theorem dJ3_init_15 : decode cJ3_init 15 = .ok (.aload_n 0, 1) := dk_42 (dk_at dksJ3_init_0 15 rfl rfl)
theorem dJ3_init_16 : decode cJ3_init 16 = .ok (.getfield 1, 3) := dk_180 0 1 (dk_at dksJ3_init_0 16 rfl rfl)
theorem dJ3_init_19 : decode cJ3_init 19 = .ok (.getfield 17, 3) := dk_180 0 17 (dk_at dksJ3_init_0 19 rfl rfl)
theorem dJ3_init_22 : decode cJ3_init 22 = .ok (.putfield 22, 3) := dk_181 0 22 (dk_at dksJ3_init_1 0 rfl rfl)
theorem dJ3_init_25 : decode cJ3_init 25 = .ok (.return_, 1) := dk_177 (dk_at dksJ3_init_1 3 rfl rfl)
abbrev cJ3_hasNext : ByteArray := prog_23_method_2_code
def yJ3_hasNext : MethodName := ⟨RJ3, "hasNext", "()Z"⟩
def dkwJ3_hasNext_0 : List UInt8 := [42, 180, 0, 25, 42, 180, 0, 1, 180, 0, 28, 159, 0, 7, 4, 167, 0, 4, 3, 172]
abbrev dktJ3_hasNext_0 : List UInt8 := dkwJ3_hasNext_0 ++ []
theorem dksJ3_hasNext_0 : cJ3_hasNext.data.toList.drop 0 = dktJ3_hasNext_0 := by decide +kernel
theorem dJ3_hasNext_0 : decode cJ3_hasNext 0 = .ok (.aload_n 0, 1) := dk_42 (dk_at dksJ3_hasNext_0 0 rfl rfl)
theorem dJ3_hasNext_1 : decode cJ3_hasNext 1 = .ok (.getfield 25, 3) := dk_180 0 25 (dk_at dksJ3_hasNext_0 1 rfl rfl)
theorem dJ3_hasNext_4 : decode cJ3_hasNext 4 = .ok (.aload_n 0, 1) := dk_42 (dk_at dksJ3_hasNext_0 4 rfl rfl)
theorem dJ3_hasNext_5 : decode cJ3_hasNext 5 = .ok (.getfield 1, 3) := dk_180 0 1 (dk_at dksJ3_hasNext_0 5 rfl rfl)
theorem dJ3_hasNext_8 : decode cJ3_hasNext 8 = .ok (.getfield 28, 3) := dk_180 0 28 (dk_at dksJ3_hasNext_0 8 rfl rfl)
theorem dJ3_hasNext_11 : decode cJ3_hasNext 11 = .ok (.if_icmp .eq 7, 3) := dk_159 0 7 (dk_at dksJ3_hasNext_0 11 rfl rfl)
theorem dJ3_hasNext_14 : decode cJ3_hasNext 14 = .ok (.iconst 1, 1) := dk_4 (dk_at dksJ3_hasNext_0 14 rfl rfl)
theorem dJ3_hasNext_15 : decode cJ3_hasNext 15 = .ok (.goto 4, 3) := dk_167 0 4 (dk_at dksJ3_hasNext_0 15 rfl rfl)
theorem dJ3_hasNext_18 : decode cJ3_hasNext 18 = .ok (.iconst 0, 1) := dk_3 (dk_at dksJ3_hasNext_0 18 rfl rfl)
theorem dJ3_hasNext_19 : decode cJ3_hasNext 19 = .ok (.ireturn, 1) := dk_172 (dk_at dksJ3_hasNext_0 19 rfl rfl)
abbrev cJ3_next : ByteArray := prog_23_method_3_code
def yJ3_next : MethodName := ⟨RJ3, "next", "()Ljava/lang/Object;"⟩
def dkwJ3_next_2 : List UInt8 := [183, 0, 43, 191, 42, 27, 4, 96, 181, 0, 25, 44, 42, 27, 90, 181, 0, 13, 50, 176]
abbrev dktJ3_next_2 : List UInt8 := dkwJ3_next_2 ++ []
def dkwJ3_next_1 : List UInt8 := [183, 0, 36, 191, 42, 180, 0, 1, 180, 0, 37, 77, 27, 44, 190, 161, 0, 11, 187, 0, 41, 89]
abbrev dktJ3_next_1 : List UInt8 := dkwJ3_next_1 ++ dktJ3_next_2
def dkwJ3_next_0 : List UInt8 := [42, 182, 0, 31, 42, 180, 0, 25, 60, 27, 42, 180, 0, 1, 180, 0, 28, 161, 0, 11, 187, 0, 34, 89]
abbrev dktJ3_next_0 : List UInt8 := dkwJ3_next_0 ++ dktJ3_next_1
theorem dksJ3_next_0 : cJ3_next.data.toList.drop 0 = dktJ3_next_0 := by decide +kernel
theorem dksJ3_next_1 : cJ3_next.data.toList.drop 24 = dktJ3_next_1 := dk_seg dksJ3_next_0 24 rfl rfl
theorem dksJ3_next_2 : cJ3_next.data.toList.drop 46 = dktJ3_next_2 := dk_seg dksJ3_next_1 22 rfl rfl
theorem dJ3_next_0 : decode cJ3_next 0 = .ok (.aload_n 0, 1) := dk_42 (dk_at dksJ3_next_0 0 rfl rfl)
theorem dJ3_next_1 : decode cJ3_next 1 = .ok (.invokevirtual 31, 3) := dk_182 0 31 (dk_at dksJ3_next_0 1 rfl rfl)
theorem dJ3_next_4 : decode cJ3_next 4 = .ok (.aload_n 0, 1) := dk_42 (dk_at dksJ3_next_0 4 rfl rfl)
theorem dJ3_next_5 : decode cJ3_next 5 = .ok (.getfield 25, 3) := dk_180 0 25 (dk_at dksJ3_next_0 5 rfl rfl)
theorem dJ3_next_8 : decode cJ3_next 8 = .ok (.istore_n 1, 1) := dk_60 (dk_at dksJ3_next_0 8 rfl rfl)
theorem dJ3_next_9 : decode cJ3_next 9 = .ok (.iload_n 1, 1) := dk_27 (dk_at dksJ3_next_0 9 rfl rfl)
theorem dJ3_next_10 : decode cJ3_next 10 = .ok (.aload_n 0, 1) := dk_42 (dk_at dksJ3_next_0 10 rfl rfl)
theorem dJ3_next_11 : decode cJ3_next 11 = .ok (.getfield 1, 3) := dk_180 0 1 (dk_at dksJ3_next_0 11 rfl rfl)
theorem dJ3_next_14 : decode cJ3_next 14 = .ok (.getfield 28, 3) := dk_180 0 28 (dk_at dksJ3_next_0 14 rfl rfl)
theorem dJ3_next_17 : decode cJ3_next 17 = .ok (.if_icmp .lt 11, 3) := dk_161 0 11 (dk_at dksJ3_next_0 17 rfl rfl)
theorem dJ3_next_20 : decode cJ3_next 20 = .ok (.new 34, 3) := dk_187 0 34 (dk_at dksJ3_next_0 20 rfl rfl)
theorem dJ3_next_23 : decode cJ3_next 23 = .ok (.dup, 1) := dk_89 (dk_at dksJ3_next_0 23 rfl rfl)
theorem dJ3_next_24 : decode cJ3_next 24 = .ok (.invokespecial 36, 3) := dk_183 0 36 (dk_at dksJ3_next_1 0 rfl rfl)
theorem dJ3_next_27 : decode cJ3_next 27 = .ok (.athrow, 1) := dk_191 (dk_at dksJ3_next_1 3 rfl rfl)
theorem dJ3_next_28 : decode cJ3_next 28 = .ok (.aload_n 0, 1) := dk_42 (dk_at dksJ3_next_1 4 rfl rfl)
theorem dJ3_next_29 : decode cJ3_next 29 = .ok (.getfield 1, 3) := dk_180 0 1 (dk_at dksJ3_next_1 5 rfl rfl)
theorem dJ3_next_32 : decode cJ3_next 32 = .ok (.getfield 37, 3) := dk_180 0 37 (dk_at dksJ3_next_1 8 rfl rfl)
theorem dJ3_next_35 : decode cJ3_next 35 = .ok (.astore_n 2, 1) := dk_77 (dk_at dksJ3_next_1 11 rfl rfl)
theorem dJ3_next_36 : decode cJ3_next 36 = .ok (.iload_n 1, 1) := dk_27 (dk_at dksJ3_next_1 12 rfl rfl)
theorem dJ3_next_37 : decode cJ3_next 37 = .ok (.aload_n 2, 1) := dk_44 (dk_at dksJ3_next_1 13 rfl rfl)
theorem dJ3_next_38 : decode cJ3_next 38 = .ok (.arraylength, 1) := dk_190 (dk_at dksJ3_next_1 14 rfl rfl)
theorem dJ3_next_39 : decode cJ3_next 39 = .ok (.if_icmp .lt 11, 3) := dk_161 0 11 (dk_at dksJ3_next_1 15 rfl rfl)
theorem dJ3_next_42 : decode cJ3_next 42 = .ok (.new 41, 3) := dk_187 0 41 (dk_at dksJ3_next_1 18 rfl rfl)
theorem dJ3_next_45 : decode cJ3_next 45 = .ok (.dup, 1) := dk_89 (dk_at dksJ3_next_1 21 rfl rfl)
theorem dJ3_next_46 : decode cJ3_next 46 = .ok (.invokespecial 43, 3) := dk_183 0 43 (dk_at dksJ3_next_2 0 rfl rfl)
theorem dJ3_next_49 : decode cJ3_next 49 = .ok (.athrow, 1) := dk_191 (dk_at dksJ3_next_2 3 rfl rfl)
theorem dJ3_next_50 : decode cJ3_next 50 = .ok (.aload_n 0, 1) := dk_42 (dk_at dksJ3_next_2 4 rfl rfl)
theorem dJ3_next_51 : decode cJ3_next 51 = .ok (.iload_n 1, 1) := dk_27 (dk_at dksJ3_next_2 5 rfl rfl)
theorem dJ3_next_52 : decode cJ3_next 52 = .ok (.iconst 1, 1) := dk_4 (dk_at dksJ3_next_2 6 rfl rfl)
theorem dJ3_next_53 : decode cJ3_next 53 = .ok (.iadd, 1) := dk_96 (dk_at dksJ3_next_2 7 rfl rfl)
theorem dJ3_next_54 : decode cJ3_next 54 = .ok (.putfield 25, 3) := dk_181 0 25 (dk_at dksJ3_next_2 8 rfl rfl)
theorem dJ3_next_57 : decode cJ3_next 57 = .ok (.aload_n 2, 1) := dk_44 (dk_at dksJ3_next_2 11 rfl rfl)
theorem dJ3_next_58 : decode cJ3_next 58 = .ok (.aload_n 0, 1) := dk_42 (dk_at dksJ3_next_2 12 rfl rfl)
theorem dJ3_next_59 : decode cJ3_next 59 = .ok (.iload_n 1, 1) := dk_27 (dk_at dksJ3_next_2 13 rfl rfl)
theorem dJ3_next_60 : decode cJ3_next 60 = .ok (.dup_x1, 1) := dk_90 (dk_at dksJ3_next_2 14 rfl rfl)
theorem dJ3_next_61 : decode cJ3_next 61 = .ok (.putfield 13, 3) := dk_181 0 13 (dk_at dksJ3_next_2 15 rfl rfl)
theorem dJ3_next_64 : decode cJ3_next 64 = .ok (.aaload, 1) := dk_50 (dk_at dksJ3_next_2 18 rfl rfl)
theorem dJ3_next_65 : decode cJ3_next 65 = .ok (.areturn, 1) := dk_176 (dk_at dksJ3_next_2 19 rfl rfl)
abbrev cJ3_checkForComodification : ByteArray := prog_23_method_6_code
def yJ3_checkForComodification : MethodName := ⟨RJ3, "checkForComodification", "()V"⟩
def dkwJ3_checkForComodification_0 : List UInt8 := [42, 180, 0, 1, 180, 0, 17, 42, 180, 0, 22, 159, 0, 11, 187, 0, 41, 89, 183, 0, 43, 191, 177]
abbrev dktJ3_checkForComodification_0 : List UInt8 := dkwJ3_checkForComodification_0 ++ []
theorem dksJ3_checkForComodification_0 : cJ3_checkForComodification.data.toList.drop 0 = dktJ3_checkForComodification_0 := by decide +kernel
theorem dJ3_checkForComodification_0 : decode cJ3_checkForComodification 0 = .ok (.aload_n 0, 1) := dk_42 (dk_at dksJ3_checkForComodification_0 0 rfl rfl)
theorem dJ3_checkForComodification_1 : decode cJ3_checkForComodification 1 = .ok (.getfield 1, 3) := dk_180 0 1 (dk_at dksJ3_checkForComodification_0 1 rfl rfl)
theorem dJ3_checkForComodification_4 : decode cJ3_checkForComodification 4 = .ok (.getfield 17, 3) := dk_180 0 17 (dk_at dksJ3_checkForComodification_0 4 rfl rfl)
theorem dJ3_checkForComodification_7 : decode cJ3_checkForComodification 7 = .ok (.aload_n 0, 1) := dk_42 (dk_at dksJ3_checkForComodification_0 7 rfl rfl)
theorem dJ3_checkForComodification_8 : decode cJ3_checkForComodification 8 = .ok (.getfield 22, 3) := dk_180 0 22 (dk_at dksJ3_checkForComodification_0 8 rfl rfl)
theorem dJ3_checkForComodification_11 : decode cJ3_checkForComodification 11 = .ok (.if_icmp .eq 11, 3) := dk_159 0 11 (dk_at dksJ3_checkForComodification_0 11 rfl rfl)
theorem dJ3_checkForComodification_14 : decode cJ3_checkForComodification 14 = .ok (.new 41, 3) := dk_187 0 41 (dk_at dksJ3_checkForComodification_0 14 rfl rfl)
theorem dJ3_checkForComodification_17 : decode cJ3_checkForComodification 17 = .ok (.dup, 1) := dk_89 (dk_at dksJ3_checkForComodification_0 17 rfl rfl)
theorem dJ3_checkForComodification_18 : decode cJ3_checkForComodification 18 = .ok (.invokespecial 43, 3) := dk_183 0 43 (dk_at dksJ3_checkForComodification_0 18 rfl rfl)
theorem dJ3_checkForComodification_21 : decode cJ3_checkForComodification 21 = .ok (.athrow, 1) := dk_191 (dk_at dksJ3_checkForComodification_0 21 rfl rfl)
theorem dJ3_checkForComodification_22 : decode cJ3_checkForComodification 22 = .ok (.return_, 1) := dk_177 (dk_at dksJ3_checkForComodification_0 22 rfl rfl)
theorem q66 : (Jvm.Cond.initialized "java/util/ArrayList$Itr") ∈ lw_all := lw_g (lw_at lw_m1 8 rfl) rfl
theorem q105 : (Jvm.Cond.fieldLink "java/util/ArrayList$Itr" (37 : Nat) "java/util/ArrayList" "elementData" "[Ljava/lang/Object;") ∈ lw_all := lw_g (lw_at lw_m1 47 rfl) rfl
theorem q106 : (Jvm.Cond.fieldLinkNest "java/util/ArrayList$Itr" (28 : Nat) "java/util/ArrayList" "size" "I" "java/util/ArrayList") ∈ lw_tbl := lw_at lw_m1 48 rfl
theorem q109 : (Jvm.Cond.fieldLink "java/util/ArrayList$Itr" (17 : Nat) "java/util/ArrayList" "modCount" "I") ∈ lw_all := lw_g (lw_at lw_m1 51 rfl) rfl
theorem q279 : (Jvm.Cond.instantiable "java/util/ArrayList$Itr" (4 : Nat)) ∈ lw_all := lw_g (lw_at lw_m1 221 rfl) rfl
theorem q281 : (Jvm.Cond.instanceMethod ({ cls := "java/util/ArrayList$Itr", name := "<init>", desc := "(Ljava/util/ArrayList;)V" } : Jvm.MethodName)) ∈ lw_all := lw_g (lw_at lw_m1 223 rfl) rfl
theorem q282 : (Jvm.Cond.code ({ cls := "java/util/ArrayList$Itr", name := "<init>", desc := "(Ljava/util/ArrayList;)V" } : Jvm.MethodName) prog_23_method_1_code (2 : Nat) (Option.none : Option Jvm.ClassFile.FieldType)) ∈ lw_all := lw_g (lw_at lw_m1 224 rfl) rfl
theorem q283 : (Jvm.Cond.methodLink "java/util/ArrayList$Itr" (7 : Nat) ({ cls := "java/lang/Object", name := "<init>", desc := "()V" } : Jvm.MethodName)) ∈ lw_all := lw_g (lw_at lw_m1 225 rfl) rfl
theorem q284 : (Jvm.Cond.fieldLink "java/util/ArrayList$Itr" (25 : Nat) "java/util/ArrayList$Itr" "cursor" "I") ∈ lw_all := lw_g (lw_at lw_m1 226 rfl) rfl
theorem q285 : (Jvm.Cond.fieldLink "java/util/ArrayList$Itr" (13 : Nat) "java/util/ArrayList$Itr" "lastRet" "I") ∈ lw_all := lw_g (lw_at lw_m1 227 rfl) rfl
theorem q286 : (Jvm.Cond.fieldLink "java/util/ArrayList$Itr" (22 : Nat) "java/util/ArrayList$Itr" "expectedModCount" "I") ∈ lw_all := lw_g (lw_at lw_m1 228 rfl) rfl
theorem q287 : (Jvm.Cond.fieldLink "java/util/ArrayList$Itr" (1 : Nat) "java/util/ArrayList$Itr" "this$0" "Ljava/util/ArrayList;") ∈ lw_all := lw_g (lw_at lw_m1 229 rfl) rfl
theorem q288 : (Jvm.Cond.lays "java/util/ArrayList$Itr" "java/util/ArrayList$Itr" "cursor" "I") ∈ lw_all := lw_g (lw_at lw_m1 230 rfl) rfl
theorem q289 : (Jvm.Cond.soleField "java/util/ArrayList$Itr" "cursor") ∈ lw_all := lw_g (lw_at lw_m1 231 rfl) rfl
theorem q290 : (Jvm.Cond.lays "java/util/ArrayList$Itr" "java/util/ArrayList$Itr" "lastRet" "I") ∈ lw_all := lw_g (lw_at lw_m1 232 rfl) rfl
theorem q291 : (Jvm.Cond.soleField "java/util/ArrayList$Itr" "lastRet") ∈ lw_all := lw_g (lw_at lw_m1 233 rfl) rfl
theorem q292 : (Jvm.Cond.lays "java/util/ArrayList$Itr" "java/util/ArrayList$Itr" "expectedModCount" "I") ∈ lw_all := lw_g (lw_at lw_m1 234 rfl) rfl
theorem q293 : (Jvm.Cond.soleField "java/util/ArrayList$Itr" "expectedModCount") ∈ lw_all := lw_g (lw_at lw_m1 235 rfl) rfl
theorem q294 : (Jvm.Cond.laysFinal "java/util/ArrayList$Itr" "java/util/ArrayList$Itr" "this$0" "Ljava/util/ArrayList;") ∈ lw_all := lw_g (lw_at lw_m1 236 rfl) rfl
theorem q295 : (Jvm.Cond.soleField "java/util/ArrayList$Itr" "this$0") ∈ lw_all := lw_g (lw_at lw_m1 237 rfl) rfl
theorem q296 : (Jvm.Cond.superclass "java/util/ArrayList$Itr" "java/lang/Object") ∈ lw_all := lw_g (lw_at lw_m1 238 rfl) rfl
theorem q322 : (Jvm.Cond.castable "java/util/ArrayList$Itr" "java/util/Iterator") ∈ lw_tbl := lw_at lw_m2 24 rfl
theorem q323 : (Jvm.Cond.selects "java/util/ArrayList$Itr" ({ cls := "java/util/Iterator", name := "hasNext", desc := "()Z" } : Jvm.MethodName) ({ cls := "java/util/ArrayList$Itr", name := "hasNext", desc := "()Z" } : Jvm.MethodName)) ∈ lw_all := lw_g (lw_at lw_m2 25 rfl) rfl
theorem q324 : (Jvm.Cond.unhidden "java/util/ArrayList$Itr" "hasNext" "()Z") ∈ lw_tbl := lw_at lw_m2 26 rfl
theorem q325 : (Jvm.Cond.instanceMethod ({ cls := "java/util/ArrayList$Itr", name := "hasNext", desc := "()Z" } : Jvm.MethodName)) ∈ lw_all := lw_g (lw_at lw_m2 27 rfl) rfl
theorem q326 : (Jvm.Cond.publicMethod ({ cls := "java/util/ArrayList$Itr", name := "hasNext", desc := "()Z" } : Jvm.MethodName)) ∈ lw_tbl := lw_at lw_m2 28 rfl
theorem q327 : (Jvm.Cond.code ({ cls := "java/util/ArrayList$Itr", name := "hasNext", desc := "()Z" } : Jvm.MethodName) prog_23_method_2_code (1 : Nat) (Option.some Jvm.ClassFile.FieldType.boolean)) ∈ lw_all := lw_g (lw_at lw_m2 29 rfl) rfl
theorem q370 : (Jvm.Cond.selects "java/util/ArrayList$Itr" ({ cls := "java/util/Iterator", name := "next", desc := "()Ljava/lang/Object;" } : Jvm.MethodName) ({ cls := "java/util/ArrayList$Itr", name := "next", desc := "()Ljava/lang/Object;" } : Jvm.MethodName)) ∈ lw_all := lw_g (lw_at lw_m2 72 rfl) rfl
theorem q371 : (Jvm.Cond.unhidden "java/util/ArrayList$Itr" "next" "()Ljava/lang/Object;") ∈ lw_tbl := lw_at lw_m2 73 rfl
theorem q372 : (Jvm.Cond.instanceMethod ({ cls := "java/util/ArrayList$Itr", name := "next", desc := "()Ljava/lang/Object;" } : Jvm.MethodName)) ∈ lw_all := lw_g (lw_at lw_m2 74 rfl) rfl
theorem q373 : (Jvm.Cond.publicMethod ({ cls := "java/util/ArrayList$Itr", name := "next", desc := "()Ljava/lang/Object;" } : Jvm.MethodName)) ∈ lw_tbl := lw_at lw_m2 75 rfl
theorem q374 : (Jvm.Cond.code ({ cls := "java/util/ArrayList$Itr", name := "next", desc := "()Ljava/lang/Object;" } : Jvm.MethodName) prog_23_method_3_code (3 : Nat) (Option.some (Jvm.ClassFile.FieldType.object "java/lang/Object"))) ∈ lw_all := lw_g (lw_at lw_m2 76 rfl) rfl
theorem q375 : (Jvm.Cond.methodLink "java/util/ArrayList$Itr" (31 : Nat) ({ cls := "java/util/ArrayList$Itr", name := "checkForComodification", desc := "()V" } : Jvm.MethodName)) ∈ lw_all := lw_g (lw_at lw_m2 77 rfl) rfl
theorem q376 : (Jvm.Cond.instanceMethod ({ cls := "java/util/ArrayList$Itr", name := "checkForComodification", desc := "()V" } : Jvm.MethodName)) ∈ lw_all := lw_g (lw_at lw_m2 78 rfl) rfl
theorem q377 : (Jvm.Cond.selects "java/util/ArrayList$Itr" ({ cls := "java/util/ArrayList$Itr", name := "checkForComodification", desc := "()V" } : Jvm.MethodName) ({ cls := "java/util/ArrayList$Itr", name := "checkForComodification", desc := "()V" } : Jvm.MethodName)) ∈ lw_all := lw_g (lw_at lw_m2 79 rfl) rfl
theorem q378 : (Jvm.Cond.code ({ cls := "java/util/ArrayList$Itr", name := "checkForComodification", desc := "()V" } : Jvm.MethodName) prog_23_method_6_code (1 : Nat) (Option.none : Option Jvm.ClassFile.FieldType)) ∈ lw_all := lw_g (lw_at lw_m2 80 rfl) rfl
theorem q496 : (Jvm.Cond.selects "java/util/ArrayList$Itr" ({ cls := "java/lang/Object", name := "getClass", desc := "()Ljava/lang/Class;" } : Jvm.MethodName) ({ cls := "java/lang/Object", name := "getClass", desc := "()Ljava/lang/Class;" } : Jvm.MethodName)) ∈ lw_all := lw_g (lw_at lw_m2 198 rfl) rfl
theorem q1366 : (Jvm.Cond.castable "java/util/ArrayList$Itr" "java/lang/Object") ∈ lw_tbl := lw_at lw_m6 108 rfl
theorem in_J3 : ∀ w ∈ wsJ30, w ∈ lw_all := lw_in wsJ30 [288, 290, 292, 294] (by decide +kernel) (by decide +kernel)
/-! java/util/Objects -/
set_option maxRecDepth 100000
def RJ4 : String := "java/util/Objects"
abbrev cJ4_checkIndex : ByteArray := prog_28_method_17_code
def yJ4_checkIndex : MethodName := ⟨RJ4, "checkIndex", "(II)I"⟩
def dkwJ4_checkIndex_0 : List UInt8 := [26, 27, 1, 184, 0, 105, 172]
abbrev dktJ4_checkIndex_0 : List UInt8 := dkwJ4_checkIndex_0 ++ []
theorem dksJ4_checkIndex_0 : cJ4_checkIndex.data.toList.drop 0 = dktJ4_checkIndex_0 := by decide +kernel
theorem dJ4_checkIndex_0 : decode cJ4_checkIndex 0 = .ok (.iload_n 0, 1) := dk_26 (dk_at dksJ4_checkIndex_0 0 rfl rfl)
theorem dJ4_checkIndex_1 : decode cJ4_checkIndex 1 = .ok (.iload_n 1, 1) := dk_27 (dk_at dksJ4_checkIndex_0 1 rfl rfl)
theorem dJ4_checkIndex_2 : decode cJ4_checkIndex 2 = .ok (.aconst_null, 1) := dk_1 (dk_at dksJ4_checkIndex_0 2 rfl rfl)
theorem dJ4_checkIndex_3 : decode cJ4_checkIndex 3 = .ok (.invokestatic 105, 3) := dk_184 0 105 (dk_at dksJ4_checkIndex_0 3 rfl rfl)
theorem dJ4_checkIndex_6 : decode cJ4_checkIndex 6 = .ok (.ireturn, 1) := dk_172 (dk_at dksJ4_checkIndex_0 6 rfl rfl)
theorem q67 : (Jvm.Cond.initialized "java/util/Objects") ∈ lw_all := lw_g (lw_at lw_m1 9 rfl) rfl
theorem q360 : (Jvm.Cond.static ({ cls := "java/util/Objects", name := "checkIndex", desc := "(II)I" } : Jvm.MethodName)) ∈ lw_all := lw_g (lw_at lw_m2 62 rfl) rfl
theorem q361 : (Jvm.Cond.code ({ cls := "java/util/Objects", name := "checkIndex", desc := "(II)I" } : Jvm.MethodName) prog_28_method_17_code (2 : Nat) (Option.some Jvm.ClassFile.FieldType.int)) ∈ lw_all := lw_g (lw_at lw_m2 63 rfl) rfl
theorem q362 : (Jvm.Cond.methodLink "java/util/Objects" (105 : Nat) ({ cls := "jdk/internal/util/Preconditions", name := "checkIndex", desc := "(IILjava/util/function/BiFunction;)I" } : Jvm.MethodName)) ∈ lw_all := lw_g (lw_at lw_m2 64 rfl) rfl
/-! jdk/internal/util/Preconditions -/
set_option maxRecDepth 100000
def RJ5 : String := "jdk/internal/util/Preconditions"
abbrev cJ5_checkIndex : ByteArray := prog_32_method_11_code
def yJ5_checkIndex : MethodName := ⟨RJ5, "checkIndex", "(IILjava/util/function/BiFunction;)I"⟩
def dkwJ5_checkIndex_0 : List UInt8 := [26, 155, 0, 8, 26, 27, 161, 0, 10, 44, 26, 27, 184, 0, 95, 191, 26, 172]
abbrev dktJ5_checkIndex_0 : List UInt8 := dkwJ5_checkIndex_0 ++ []
theorem dksJ5_checkIndex_0 : cJ5_checkIndex.data.toList.drop 0 = dktJ5_checkIndex_0 := by decide +kernel
theorem dJ5_checkIndex_0 : decode cJ5_checkIndex 0 = .ok (.iload_n 0, 1) := dk_26 (dk_at dksJ5_checkIndex_0 0 rfl rfl)
theorem dJ5_checkIndex_1 : decode cJ5_checkIndex 1 = .ok (.ifCond .lt 8, 3) := dk_155 0 8 (dk_at dksJ5_checkIndex_0 1 rfl rfl)
theorem dJ5_checkIndex_4 : decode cJ5_checkIndex 4 = .ok (.iload_n 0, 1) := dk_26 (dk_at dksJ5_checkIndex_0 4 rfl rfl)
theorem dJ5_checkIndex_5 : decode cJ5_checkIndex 5 = .ok (.iload_n 1, 1) := dk_27 (dk_at dksJ5_checkIndex_0 5 rfl rfl)
theorem dJ5_checkIndex_6 : decode cJ5_checkIndex 6 = .ok (.if_icmp .lt 10, 3) := dk_161 0 10 (dk_at dksJ5_checkIndex_0 6 rfl rfl)
theorem dJ5_checkIndex_9 : decode cJ5_checkIndex 9 = .ok (.aload_n 2, 1) := dk_44 (dk_at dksJ5_checkIndex_0 9 rfl rfl)
theorem dJ5_checkIndex_10 : decode cJ5_checkIndex 10 = .ok (.iload_n 0, 1) := dk_26 (dk_at dksJ5_checkIndex_0 10 rfl rfl)
theorem dJ5_checkIndex_11 : decode cJ5_checkIndex 11 = .ok (.iload_n 1, 1) := dk_27 (dk_at dksJ5_checkIndex_0 11 rfl rfl)
theorem dJ5_checkIndex_12 : decode cJ5_checkIndex 12 = .ok (.invokestatic 95, 3) := dk_184 0 95 (dk_at dksJ5_checkIndex_0 12 rfl rfl)
theorem dJ5_checkIndex_15 : decode cJ5_checkIndex 15 = .ok (.athrow, 1) := dk_191 (dk_at dksJ5_checkIndex_0 15 rfl rfl)
theorem dJ5_checkIndex_16 : decode cJ5_checkIndex 16 = .ok (.iload_n 0, 1) := dk_26 (dk_at dksJ5_checkIndex_0 16 rfl rfl)
theorem dJ5_checkIndex_17 : decode cJ5_checkIndex 17 = .ok (.ireturn, 1) := dk_172 (dk_at dksJ5_checkIndex_0 17 rfl rfl)
theorem q68 : (Jvm.Cond.initialized "jdk/internal/util/Preconditions") ∈ lw_all := lw_g (lw_at lw_m1 10 rfl) rfl
theorem q363 : (Jvm.Cond.static ({ cls := "jdk/internal/util/Preconditions", name := "checkIndex", desc := "(IILjava/util/function/BiFunction;)I" } : Jvm.MethodName)) ∈ lw_all := lw_g (lw_at lw_m2 65 rfl) rfl
theorem q364 : (Jvm.Cond.code ({ cls := "jdk/internal/util/Preconditions", name := "checkIndex", desc := "(IILjava/util/function/BiFunction;)I" } : Jvm.MethodName) prog_32_method_11_code (3 : Nat) (Option.some Jvm.ClassFile.FieldType.int)) ∈ lw_all := lw_g (lw_at lw_m2 66 rfl) rfl
/-! jdk/internal/util/ArraysSupport -/
set_option maxRecDepth 100000
def RJ6 : String := "jdk/internal/util/ArraysSupport"
abbrev cJ6_newLength : ByteArray := prog_31_method_27_code
def yJ6_newLength : MethodName := ⟨RJ6, "newLength", "(III)I"⟩
def dkwJ6_newLength_1 : List UInt8 := [184, 0, 201, 172]
abbrev dktJ6_newLength_1 : List UInt8 := dkwJ6_newLength_1 ++ []
def dkwJ6_newLength_0 : List UInt8 := [26, 27, 28, 184, 0, 194, 96, 62, 3, 29, 162, 0, 11, 29, 18, 200, 163, 0, 5, 29, 172, 26, 27]
abbrev dktJ6_newLength_0 : List UInt8 := dkwJ6_newLength_0 ++ dktJ6_newLength_1
theorem dksJ6_newLength_0 : cJ6_newLength.data.toList.drop 0 = dktJ6_newLength_0 := by decide +kernel
theorem dksJ6_newLength_1 : cJ6_newLength.data.toList.drop 23 = dktJ6_newLength_1 := dk_seg dksJ6_newLength_0 23 rfl rfl
theorem dJ6_newLength_0 : decode cJ6_newLength 0 = .ok (.iload_n 0, 1) := dk_26 (dk_at dksJ6_newLength_0 0 rfl rfl)
theorem dJ6_newLength_1 : decode cJ6_newLength 1 = .ok (.iload_n 1, 1) := dk_27 (dk_at dksJ6_newLength_0 1 rfl rfl)
theorem dJ6_newLength_2 : decode cJ6_newLength 2 = .ok (.iload_n 2, 1) := dk_28 (dk_at dksJ6_newLength_0 2 rfl rfl)
theorem dJ6_newLength_3 : decode cJ6_newLength 3 = .ok (.invokestatic 194, 3) := dk_184 0 194 (dk_at dksJ6_newLength_0 3 rfl rfl)
theorem dJ6_newLength_6 : decode cJ6_newLength 6 = .ok (.iadd, 1) := dk_96 (dk_at dksJ6_newLength_0 6 rfl rfl)
theorem dJ6_newLength_7 : decode cJ6_newLength 7 = .ok (.istore_n 3, 1) := dk_62 (dk_at dksJ6_newLength_0 7 rfl rfl)
theorem dJ6_newLength_8 : decode cJ6_newLength 8 = .ok (.iconst 0, 1) := dk_3 (dk_at dksJ6_newLength_0 8 rfl rfl)
theorem dJ6_newLength_9 : decode cJ6_newLength 9 = .ok (.iload_n 3, 1) := dk_29 (dk_at dksJ6_newLength_0 9 rfl rfl)
theorem dJ6_newLength_10 : decode cJ6_newLength 10 = .ok (.if_icmp .ge 11, 3) := dk_162 0 11 (dk_at dksJ6_newLength_0 10 rfl rfl)
theorem dJ6_newLength_13 : decode cJ6_newLength 13 = .ok (.iload_n 3, 1) := dk_29 (dk_at dksJ6_newLength_0 13 rfl rfl)
theorem dJ6_newLength_14 : decode cJ6_newLength 14 = .ok (.ldc 200, 2) := dk_18 200 (dk_at dksJ6_newLength_0 14 rfl rfl)
theorem dJ6_newLength_16 : decode cJ6_newLength 16 = .ok (.if_icmp .gt 5, 3) := dk_163 0 5 (dk_at dksJ6_newLength_0 16 rfl rfl)
theorem dJ6_newLength_19 : decode cJ6_newLength 19 = .ok (.iload_n 3, 1) := dk_29 (dk_at dksJ6_newLength_0 19 rfl rfl)
theorem dJ6_newLength_20 : decode cJ6_newLength 20 = .ok (.ireturn, 1) := dk_172 (dk_at dksJ6_newLength_0 20 rfl rfl)
theorem dJ6_newLength_21 : decode cJ6_newLength 21 = .ok (.iload_n 0, 1) := dk_26 (dk_at dksJ6_newLength_0 21 rfl rfl)
theorem dJ6_newLength_22 : decode cJ6_newLength 22 = .ok (.iload_n 1, 1) := dk_27 (dk_at dksJ6_newLength_0 22 rfl rfl)
theorem dJ6_newLength_23 : decode cJ6_newLength 23 = .ok (.invokestatic 201, 3) := dk_184 0 201 (dk_at dksJ6_newLength_1 0 rfl rfl)
theorem dJ6_newLength_26 : decode cJ6_newLength 26 = .ok (.ireturn, 1) := dk_172 (dk_at dksJ6_newLength_1 3 rfl rfl)
abbrev cJ6_hugeLength : ByteArray := prog_31_method_28_code
def yJ6_hugeLength : MethodName := ⟨RJ6, "hugeLength", "(II)I"⟩
def dkwJ6_hugeLength_2 : List UInt8 := [191, 28, 18, 200, 163, 0, 6, 18, 200, 172, 28, 172]
abbrev dktJ6_hugeLength_2 : List UInt8 := dkwJ6_hugeLength_2 ++ []
def dkwJ6_hugeLength_1 : List UInt8 := [26, 182, 0, 98, 18, 208, 182, 0, 94, 27, 182, 0, 98, 18, 210, 182, 0, 94, 182, 0, 101, 183, 0, 212]
abbrev dktJ6_hugeLength_1 : List UInt8 := dkwJ6_hugeLength_1 ++ dktJ6_hugeLength_2
def dkwJ6_hugeLength_0 : List UInt8 := [26, 27, 96, 61, 28, 156, 0, 44, 187, 0, 204, 89, 187, 0, 89, 89, 183, 0, 91, 18, 206, 182, 0, 94]
abbrev dktJ6_hugeLength_0 : List UInt8 := dkwJ6_hugeLength_0 ++ dktJ6_hugeLength_1
theorem dksJ6_hugeLength_0 : cJ6_hugeLength.data.toList.drop 0 = dktJ6_hugeLength_0 := by decide +kernel
theorem dksJ6_hugeLength_1 : cJ6_hugeLength.data.toList.drop 24 = dktJ6_hugeLength_1 := dk_seg dksJ6_hugeLength_0 24 rfl rfl
theorem dksJ6_hugeLength_2 : cJ6_hugeLength.data.toList.drop 48 = dktJ6_hugeLength_2 := dk_seg dksJ6_hugeLength_1 24 rfl rfl
theorem dJ6_hugeLength_0 : decode cJ6_hugeLength 0 = .ok (.iload_n 0, 1) := dk_26 (dk_at dksJ6_hugeLength_0 0 rfl rfl)
theorem dJ6_hugeLength_1 : decode cJ6_hugeLength 1 = .ok (.iload_n 1, 1) := dk_27 (dk_at dksJ6_hugeLength_0 1 rfl rfl)
theorem dJ6_hugeLength_2 : decode cJ6_hugeLength 2 = .ok (.iadd, 1) := dk_96 (dk_at dksJ6_hugeLength_0 2 rfl rfl)
theorem dJ6_hugeLength_3 : decode cJ6_hugeLength 3 = .ok (.istore_n 2, 1) := dk_61 (dk_at dksJ6_hugeLength_0 3 rfl rfl)
theorem dJ6_hugeLength_4 : decode cJ6_hugeLength 4 = .ok (.iload_n 2, 1) := dk_28 (dk_at dksJ6_hugeLength_0 4 rfl rfl)
theorem dJ6_hugeLength_5 : decode cJ6_hugeLength 5 = .ok (.ifCond .ge 44, 3) := dk_156 0 44 (dk_at dksJ6_hugeLength_0 5 rfl rfl)
theorem dJ6_hugeLength_8 : decode cJ6_hugeLength 8 = .ok (.new 204, 3) := dk_187 0 204 (dk_at dksJ6_hugeLength_0 8 rfl rfl)
theorem dJ6_hugeLength_11 : decode cJ6_hugeLength 11 = .ok (.dup, 1) := dk_89 (dk_at dksJ6_hugeLength_0 11 rfl rfl)
theorem dJ6_hugeLength_12 : decode cJ6_hugeLength 12 = .ok (.new 89, 3) := dk_187 0 89 (dk_at dksJ6_hugeLength_0 12 rfl rfl)
theorem dJ6_hugeLength_15 : decode cJ6_hugeLength 15 = .ok (.dup, 1) := dk_89 (dk_at dksJ6_hugeLength_0 15 rfl rfl)
theorem dJ6_hugeLength_16 : decode cJ6_hugeLength 16 = .ok (.invokespecial 91, 3) := dk_183 0 91 (dk_at dksJ6_hugeLength_0 16 rfl rfl)
theorem dJ6_hugeLength_19 : decode cJ6_hugeLength 19 = .ok (.ldc 206, 2) := dk_18 206 (dk_at dksJ6_hugeLength_0 19 rfl rfl)
theorem dJ6_hugeLength_21 : decode cJ6_hugeLength 21 = .ok (.invokevirtual 94, 3) := dk_182 0 94 (dk_at dksJ6_hugeLength_0 21 rfl rfl)
theorem dJ6_hugeLength_24 : decode cJ6_hugeLength 24 = .ok (.iload_n 0, 1) := dk_26 (dk_at dksJ6_hugeLength_1 0 rfl rfl)
theorem dJ6_hugeLength_25 : decode cJ6_hugeLength 25 = .ok (.invokevirtual 98, 3) := dk_182 0 98 (dk_at dksJ6_hugeLength_1 1 rfl rfl)
theorem dJ6_hugeLength_28 : decode cJ6_hugeLength 28 = .ok (.ldc 208, 2) := dk_18 208 (dk_at dksJ6_hugeLength_1 4 rfl rfl)
theorem dJ6_hugeLength_30 : decode cJ6_hugeLength 30 = .ok (.invokevirtual 94, 3) := dk_182 0 94 (dk_at dksJ6_hugeLength_1 6 rfl rfl)
theorem dJ6_hugeLength_33 : decode cJ6_hugeLength 33 = .ok (.iload_n 1, 1) := dk_27 (dk_at dksJ6_hugeLength_1 9 rfl rfl)
theorem dJ6_hugeLength_34 : decode cJ6_hugeLength 34 = .ok (.invokevirtual 98, 3) := dk_182 0 98 (dk_at dksJ6_hugeLength_1 10 rfl rfl)
theorem dJ6_hugeLength_37 : decode cJ6_hugeLength 37 = .ok (.ldc 210, 2) := dk_18 210 (dk_at dksJ6_hugeLength_1 13 rfl rfl)
theorem dJ6_hugeLength_39 : decode cJ6_hugeLength 39 = .ok (.invokevirtual 94, 3) := dk_182 0 94 (dk_at dksJ6_hugeLength_1 15 rfl rfl)
theorem dJ6_hugeLength_42 : decode cJ6_hugeLength 42 = .ok (.invokevirtual 101, 3) := dk_182 0 101 (dk_at dksJ6_hugeLength_1 18 rfl rfl)
theorem dJ6_hugeLength_45 : decode cJ6_hugeLength 45 = .ok (.invokespecial 212, 3) := dk_183 0 212 (dk_at dksJ6_hugeLength_1 21 rfl rfl)
theorem dJ6_hugeLength_48 : decode cJ6_hugeLength 48 = .ok (.athrow, 1) := dk_191 (dk_at dksJ6_hugeLength_2 0 rfl rfl)
theorem dJ6_hugeLength_49 : decode cJ6_hugeLength 49 = .ok (.iload_n 2, 1) := dk_28 (dk_at dksJ6_hugeLength_2 1 rfl rfl)
theorem dJ6_hugeLength_50 : decode cJ6_hugeLength 50 = .ok (.ldc 200, 2) := dk_18 200 (dk_at dksJ6_hugeLength_2 2 rfl rfl)
theorem dJ6_hugeLength_52 : decode cJ6_hugeLength 52 = .ok (.if_icmp .gt 6, 3) := dk_163 0 6 (dk_at dksJ6_hugeLength_2 4 rfl rfl)
theorem dJ6_hugeLength_55 : decode cJ6_hugeLength 55 = .ok (.ldc 200, 2) := dk_18 200 (dk_at dksJ6_hugeLength_2 7 rfl rfl)
theorem dJ6_hugeLength_57 : decode cJ6_hugeLength 57 = .ok (.ireturn, 1) := dk_172 (dk_at dksJ6_hugeLength_2 9 rfl rfl)
theorem dJ6_hugeLength_58 : decode cJ6_hugeLength 58 = .ok (.iload_n 2, 1) := dk_28 (dk_at dksJ6_hugeLength_2 10 rfl rfl)
theorem dJ6_hugeLength_59 : decode cJ6_hugeLength 59 = .ok (.ireturn, 1) := dk_172 (dk_at dksJ6_hugeLength_2 11 rfl rfl)
theorem q69 : (Jvm.Cond.initialized "jdk/internal/util/ArraysSupport") ∈ lw_all := lw_g (lw_at lw_m1 11 rfl) rfl
theorem q469 : (Jvm.Cond.static ({ cls := "jdk/internal/util/ArraysSupport", name := "newLength", desc := "(III)I" } : Jvm.MethodName)) ∈ lw_all := lw_g (lw_at lw_m2 171 rfl) rfl
theorem q470 : (Jvm.Cond.code ({ cls := "jdk/internal/util/ArraysSupport", name := "newLength", desc := "(III)I" } : Jvm.MethodName) prog_31_method_27_code (4 : Nat) (Option.some Jvm.ClassFile.FieldType.int)) ∈ lw_all := lw_g (lw_at lw_m2 172 rfl) rfl
theorem q471 : (Jvm.Cond.methodLink "jdk/internal/util/ArraysSupport" (194 : Nat) ({ cls := "java/lang/Math", name := "max", desc := "(II)I" } : Jvm.MethodName)) ∈ lw_all := lw_g (lw_at lw_m2 173 rfl) rfl
theorem q474 : (Jvm.Cond.constant "jdk/internal/util/ArraysSupport" (200 : Nat) (2147483639 : Int32)) ∈ lw_all := lw_g (lw_at lw_m2 176 rfl) rfl
theorem q475 : (Jvm.Cond.methodLink "jdk/internal/util/ArraysSupport" (201 : Nat) ({ cls := "jdk/internal/util/ArraysSupport", name := "hugeLength", desc := "(II)I" } : Jvm.MethodName)) ∈ lw_all := lw_g (lw_at lw_m2 177 rfl) rfl
theorem q476 : (Jvm.Cond.static ({ cls := "jdk/internal/util/ArraysSupport", name := "hugeLength", desc := "(II)I" } : Jvm.MethodName)) ∈ lw_all := lw_g (lw_at lw_m2 178 rfl) rfl
theorem q477 : (Jvm.Cond.code ({ cls := "jdk/internal/util/ArraysSupport", name := "hugeLength", desc := "(II)I" } : Jvm.MethodName) prog_31_method_28_code (3 : Nat) (Option.some Jvm.ClassFile.FieldType.int)) ∈ lw_all := lw_g (lw_at lw_m2 179 rfl) rfl
/-! java/lang/Math -/
set_option maxRecDepth 100000
def RJ7 : String := "java/lang/Math"
abbrev cJ7_max : ByteArray := prog_18_method_65_code
def yJ7_max : MethodName := ⟨RJ7, "max", "(II)I"⟩
def dkwJ7_max_0 : List UInt8 := [26, 27, 161, 0, 7, 26, 167, 0, 4, 27, 172]
abbrev dktJ7_max_0 : List UInt8 := dkwJ7_max_0 ++ []
theorem dksJ7_max_0 : cJ7_max.data.toList.drop 0 = dktJ7_max_0 := by decide +kernel
theorem dJ7_max_0 : decode cJ7_max 0 = .ok (.iload_n 0, 1) := dk_26 (dk_at dksJ7_max_0 0 rfl rfl)
theorem dJ7_max_1 : decode cJ7_max 1 = .ok (.iload_n 1, 1) := dk_27 (dk_at dksJ7_max_0 1 rfl rfl)
theorem dJ7_max_2 : decode cJ7_max 2 = .ok (.if_icmp .lt 7, 3) := dk_161 0 7 (dk_at dksJ7_max_0 2 rfl rfl)
theorem dJ7_max_5 : decode cJ7_max 5 = .ok (.iload_n 0, 1) := dk_26 (dk_at dksJ7_max_0 5 rfl rfl)
theorem dJ7_max_6 : decode cJ7_max 6 = .ok (.goto 4, 3) := dk_167 0 4 (dk_at dksJ7_max_0 6 rfl rfl)
theorem dJ7_max_9 : decode cJ7_max 9 = .ok (.iload_n 1, 1) := dk_27 (dk_at dksJ7_max_0 9 rfl rfl)
theorem dJ7_max_10 : decode cJ7_max 10 = .ok (.ireturn, 1) := dk_172 (dk_at dksJ7_max_0 10 rfl rfl)
abbrev cJ7_min : ByteArray := prog_18_method_69_code
def yJ7_min : MethodName := ⟨RJ7, "min", "(II)I"⟩
def dkwJ7_min_0 : List UInt8 := [26, 27, 163, 0, 7, 26, 167, 0, 4, 27, 172]
abbrev dktJ7_min_0 : List UInt8 := dkwJ7_min_0 ++ []
theorem dksJ7_min_0 : cJ7_min.data.toList.drop 0 = dktJ7_min_0 := by decide +kernel
theorem dJ7_min_0 : decode cJ7_min 0 = .ok (.iload_n 0, 1) := dk_26 (dk_at dksJ7_min_0 0 rfl rfl)
theorem dJ7_min_1 : decode cJ7_min 1 = .ok (.iload_n 1, 1) := dk_27 (dk_at dksJ7_min_0 1 rfl rfl)
theorem dJ7_min_2 : decode cJ7_min 2 = .ok (.if_icmp .gt 7, 3) := dk_163 0 7 (dk_at dksJ7_min_0 2 rfl rfl)
theorem dJ7_min_5 : decode cJ7_min 5 = .ok (.iload_n 0, 1) := dk_26 (dk_at dksJ7_min_0 5 rfl rfl)
theorem dJ7_min_6 : decode cJ7_min 6 = .ok (.goto 4, 3) := dk_167 0 4 (dk_at dksJ7_min_0 6 rfl rfl)
theorem dJ7_min_9 : decode cJ7_min 9 = .ok (.iload_n 1, 1) := dk_27 (dk_at dksJ7_min_0 9 rfl rfl)
theorem dJ7_min_10 : decode cJ7_min 10 = .ok (.ireturn, 1) := dk_172 (dk_at dksJ7_min_0 10 rfl rfl)
theorem q70 : (Jvm.Cond.initialized "java/lang/Math") ∈ lw_all := lw_g (lw_at lw_m1 12 rfl) rfl
theorem q472 : (Jvm.Cond.static ({ cls := "java/lang/Math", name := "max", desc := "(II)I" } : Jvm.MethodName)) ∈ lw_all := lw_g (lw_at lw_m2 174 rfl) rfl
theorem q473 : (Jvm.Cond.code ({ cls := "java/lang/Math", name := "max", desc := "(II)I" } : Jvm.MethodName) prog_18_method_65_code (2 : Nat) (Option.some Jvm.ClassFile.FieldType.int)) ∈ lw_all := lw_g (lw_at lw_m2 175 rfl) rfl
theorem q504 : (Jvm.Cond.static ({ cls := "java/lang/Math", name := "min", desc := "(II)I" } : Jvm.MethodName)) ∈ lw_all := lw_g (lw_at lw_m2 206 rfl) rfl
theorem q505 : (Jvm.Cond.code ({ cls := "java/lang/Math", name := "min", desc := "(II)I" } : Jvm.MethodName) prog_18_method_69_code (2 : Nat) (Option.some Jvm.ClassFile.FieldType.int)) ∈ lw_all := lw_g (lw_at lw_m2 207 rfl) rfl
/-! java/util/Arrays -/
set_option maxRecDepth 100000
def RJ8 : String := "java/util/Arrays"
abbrev cJ8_copyOf : ByteArray := prog_24_method_119_code
def yJ8_copyOf : MethodName := ⟨RJ8, "copyOf", "([Ljava/lang/Object;I)[Ljava/lang/Object;"⟩
def dkwJ8_copyOf_0 : List UInt8 := [42, 27, 42, 182, 0, 86, 184, 1, 44, 176]
abbrev dktJ8_copyOf_0 : List UInt8 := dkwJ8_copyOf_0 ++ []
theorem dksJ8_copyOf_0 : cJ8_copyOf.data.toList.drop 0 = dktJ8_copyOf_0 := by decide +kernel
theorem dJ8_copyOf_0 : decode cJ8_copyOf 0 = .ok (.aload_n 0, 1) := dk_42 (dk_at dksJ8_copyOf_0 0 rfl rfl)
theorem dJ8_copyOf_1 : decode cJ8_copyOf 1 = .ok (.iload_n 1, 1) := dk_27 (dk_at dksJ8_copyOf_0 1 rfl rfl)
theorem dJ8_copyOf_2 : decode cJ8_copyOf 2 = .ok (.aload_n 0, 1) := dk_42 (dk_at dksJ8_copyOf_0 2 rfl rfl)
theorem dJ8_copyOf_3 : decode cJ8_copyOf 3 = .ok (.invokevirtual 86, 3) := dk_182 0 86 (dk_at dksJ8_copyOf_0 3 rfl rfl)
theorem dJ8_copyOf_6 : decode cJ8_copyOf 6 = .ok (.invokestatic 300, 3) := dk_184 1 44 (dk_at dksJ8_copyOf_0 6 rfl rfl)
theorem dJ8_copyOf_9 : decode cJ8_copyOf 9 = .ok (.areturn, 1) := dk_176 (dk_at dksJ8_copyOf_0 9 rfl rfl)
abbrev cJ8_copyOf_2 : ByteArray := prog_24_method_120_code
def yJ8_copyOf_2 : MethodName := ⟨RJ8, "copyOf", "([Ljava/lang/Object;ILjava/lang/Class;)[Ljava/lang/Object;"⟩
def dkwJ8_copyOf_2_1 : List UInt8 := [78, 42, 3, 45, 3, 42, 190, 27, 184, 1, 48, 184, 0, 150, 45, 176]
abbrev dktJ8_copyOf_2_1 : List UInt8 := dkwJ8_copyOf_2_1 ++ []
def dkwJ8_copyOf_2_0 : List UInt8 := [44, 18, 110, 166, 0, 10, 27, 189, 0, 2, 167, 0, 14, 44, 182, 0, 90, 27, 184, 0, 95, 192, 0, 110]
abbrev dktJ8_copyOf_2_0 : List UInt8 := dkwJ8_copyOf_2_0 ++ dktJ8_copyOf_2_1
theorem dksJ8_copyOf_2_0 : cJ8_copyOf_2.data.toList.drop 0 = dktJ8_copyOf_2_0 := by decide +kernel
theorem dksJ8_copyOf_2_1 : cJ8_copyOf_2.data.toList.drop 24 = dktJ8_copyOf_2_1 := dk_seg dksJ8_copyOf_2_0 24 rfl rfl
theorem dJ8_copyOf_2_0 : decode cJ8_copyOf_2 0 = .ok (.aload_n 2, 1) := dk_44 (dk_at dksJ8_copyOf_2_0 0 rfl rfl)
theorem dJ8_copyOf_2_1 : decode cJ8_copyOf_2 1 = .ok (.ldc 110, 2) := dk_18 110 (dk_at dksJ8_copyOf_2_0 1 rfl rfl)
theorem dJ8_copyOf_2_3 : decode cJ8_copyOf_2 3 = .ok (.if_acmp .ne 10, 3) := dk_166 0 10 (dk_at dksJ8_copyOf_2_0 3 rfl rfl)
theorem dJ8_copyOf_2_6 : decode cJ8_copyOf_2 6 = .ok (.iload_n 1, 1) := dk_27 (dk_at dksJ8_copyOf_2_0 6 rfl rfl)
theorem dJ8_copyOf_2_7 : decode cJ8_copyOf_2 7 = .ok (.anewarray 2, 3) := dk_189 0 2 (dk_at dksJ8_copyOf_2_0 7 rfl rfl)
theorem dJ8_copyOf_2_10 : decode cJ8_copyOf_2 10 = .ok (.goto 14, 3) := dk_167 0 14 (dk_at dksJ8_copyOf_2_0 10 rfl rfl)
theorem dJ8_copyOf_2_13 : decode cJ8_copyOf_2 13 = .ok (.aload_n 2, 1) := dk_44 (dk_at dksJ8_copyOf_2_0 13 rfl rfl)
theorem dJ8_copyOf_2_14 : decode cJ8_copyOf_2 14 = .ok (.invokevirtual 90, 3) := dk_182 0 90 (dk_at dksJ8_copyOf_2_0 14 rfl rfl)
theorem dJ8_copyOf_2_17 : decode cJ8_copyOf_2 17 = .ok (.iload_n 1, 1) := dk_27 (dk_at dksJ8_copyOf_2_0 17 rfl rfl)
theorem dJ8_copyOf_2_18 : decode cJ8_copyOf_2 18 = .ok (.invokestatic 95, 3) := dk_184 0 95 (dk_at dksJ8_copyOf_2_0 18 rfl rfl)
theorem dJ8_copyOf_2_21 : decode cJ8_copyOf_2 21 = .ok (.checkcast 110, 3) := dk_192 0 110 (dk_at dksJ8_copyOf_2_0 21 rfl rfl)
theorem dJ8_copyOf_2_24 : decode cJ8_copyOf_2 24 = .ok (.astore_n 3, 1) := dk_78 (dk_at dksJ8_copyOf_2_1 0 rfl rfl)
theorem dJ8_copyOf_2_25 : decode cJ8_copyOf_2 25 = .ok (.aload_n 0, 1) := dk_42 (dk_at dksJ8_copyOf_2_1 1 rfl rfl)
theorem dJ8_copyOf_2_26 : decode cJ8_copyOf_2 26 = .ok (.iconst 0, 1) := dk_3 (dk_at dksJ8_copyOf_2_1 2 rfl rfl)
theorem dJ8_copyOf_2_27 : decode cJ8_copyOf_2 27 = .ok (.aload_n 3, 1) := dk_45 (dk_at dksJ8_copyOf_2_1 3 rfl rfl)
theorem dJ8_copyOf_2_28 : decode cJ8_copyOf_2 28 = .ok (.iconst 0, 1) := dk_3 (dk_at dksJ8_copyOf_2_1 4 rfl rfl)
theorem dJ8_copyOf_2_29 : decode cJ8_copyOf_2 29 = .ok (.aload_n 0, 1) := dk_42 (dk_at dksJ8_copyOf_2_1 5 rfl rfl)
theorem dJ8_copyOf_2_30 : decode cJ8_copyOf_2 30 = .ok (.arraylength, 1) := dk_190 (dk_at dksJ8_copyOf_2_1 6 rfl rfl)
theorem dJ8_copyOf_2_31 : decode cJ8_copyOf_2 31 = .ok (.iload_n 1, 1) := dk_27 (dk_at dksJ8_copyOf_2_1 7 rfl rfl)
theorem dJ8_copyOf_2_32 : decode cJ8_copyOf_2 32 = .ok (.invokestatic 304, 3) := dk_184 1 48 (dk_at dksJ8_copyOf_2_1 8 rfl rfl)
theorem dJ8_copyOf_2_35 : decode cJ8_copyOf_2 35 = .ok (.invokestatic 150, 3) := dk_184 0 150 (dk_at dksJ8_copyOf_2_1 11 rfl rfl)
theorem dJ8_copyOf_2_38 : decode cJ8_copyOf_2 38 = .ok (.aload_n 3, 1) := dk_45 (dk_at dksJ8_copyOf_2_1 14 rfl rfl)
theorem dJ8_copyOf_2_39 : decode cJ8_copyOf_2 39 = .ok (.areturn, 1) := dk_176 (dk_at dksJ8_copyOf_2_1 15 rfl rfl)
theorem q71 : (Jvm.Cond.initialized "java/util/Arrays") ∈ lw_all := lw_g (lw_at lw_m1 13 rfl) rfl
theorem q479 : (Jvm.Cond.static ({ cls := "java/util/Arrays", name := "copyOf", desc := "([Ljava/lang/Object;I)[Ljava/lang/Object;" } : Jvm.MethodName)) ∈ lw_all := lw_g (lw_at lw_m2 181 rfl) rfl
theorem q480 : (Jvm.Cond.code ({ cls := "java/util/Arrays", name := "copyOf", desc := "([Ljava/lang/Object;I)[Ljava/lang/Object;" } : Jvm.MethodName) prog_24_method_119_code (2 : Nat) (Option.some (Jvm.ClassFile.FieldType.array (Jvm.ClassFile.FieldType.object "java/lang/Object")))) ∈ lw_all := lw_g (lw_at lw_m2 182 rfl) rfl
theorem q481 : (Jvm.Cond.methodLink "java/util/Arrays" (86 : Nat) ({ cls := "java/lang/Object", name := "getClass", desc := "()Ljava/lang/Class;" } : Jvm.MethodName)) ∈ lw_all := lw_g (lw_at lw_m2 183 rfl) rfl
theorem q498 : (Jvm.Cond.methodLink "java/util/Arrays" (300 : Nat) ({ cls := "java/util/Arrays", name := "copyOf", desc := "([Ljava/lang/Object;ILjava/lang/Class;)[Ljava/lang/Object;" } : Jvm.MethodName)) ∈ lw_all := lw_g (lw_at lw_m2 200 rfl) rfl
theorem q499 : (Jvm.Cond.static ({ cls := "java/util/Arrays", name := "copyOf", desc := "([Ljava/lang/Object;ILjava/lang/Class;)[Ljava/lang/Object;" } : Jvm.MethodName)) ∈ lw_all := lw_g (lw_at lw_m2 201 rfl) rfl
theorem q500 : (Jvm.Cond.code ({ cls := "java/util/Arrays", name := "copyOf", desc := "([Ljava/lang/Object;ILjava/lang/Class;)[Ljava/lang/Object;" } : Jvm.MethodName) prog_24_method_120_code (4 : Nat) (Option.some (Jvm.ClassFile.FieldType.array (Jvm.ClassFile.FieldType.object "java/lang/Object")))) ∈ lw_all := lw_g (lw_at lw_m2 202 rfl) rfl
theorem q501 : (Jvm.Cond.classLink "java/util/Arrays" (110 : Nat) "[Ljava/lang/Object;") ∈ lw_all := lw_g (lw_at lw_m2 203 rfl) rfl
theorem q502 : (Jvm.Cond.classLink "java/util/Arrays" (2 : Nat) "java/lang/Object") ∈ lw_all := lw_g (lw_at lw_m2 204 rfl) rfl
theorem q503 : (Jvm.Cond.methodLink "java/util/Arrays" (304 : Nat) ({ cls := "java/lang/Math", name := "min", desc := "(II)I" } : Jvm.MethodName)) ∈ lw_all := lw_g (lw_at lw_m2 205 rfl) rfl
theorem q506 : (Jvm.Cond.methodLink "java/util/Arrays" (150 : Nat) ({ cls := "java/lang/System", name := "arraycopy", desc := "(Ljava/lang/Object;ILjava/lang/Object;II)V" } : Jvm.MethodName)) ∈ lw_all := lw_g (lw_at lw_m2 208 rfl) rfl
/-! java/lang/Object -/
set_option maxRecDepth 100000
def RJ9 : String := "java/lang/Object"
abbrev cJ9_init : ByteArray := object_method_1_code
def yJ9_init : MethodName := ⟨RJ9, "<init>", "()V"⟩
theorem dJ9_init_0 : decode cJ9_init 0 = .ok (.return_, 1) := by decide +kernel
theorem q86 : (Jvm.Cond.instanceMethod ({ cls := "java/lang/Object", name := "<init>", desc := "()V" } : Jvm.MethodName)) ∈ lw_all := lw_g (lw_at lw_m1 28 rfl) rfl
theorem q87 : (Jvm.Cond.code ({ cls := "java/lang/Object", name := "<init>", desc := "()V" } : Jvm.MethodName) object_method_1_code (1 : Nat) (Option.none : Option Jvm.ClassFile.FieldType)) ∈ lw_all := lw_g (lw_at lw_m1 29 rfl) rfl
theorem q482 : (Jvm.Cond.instanceMethod ({ cls := "java/lang/Object", name := "getClass", desc := "()Ljava/lang/Class;" } : Jvm.MethodName)) ∈ lw_all := lw_g (lw_at lw_m2 184 rfl) rfl
theorem q483 : (Jvm.Cond.sameMethod "java/lang/Object" "java/lang/Object" "getClass" "()Ljava/lang/Class;") ∈ lw_all := lw_g (lw_at lw_m2 185 rfl) rfl
theorem q497 : (Jvm.Cond.native ({ cls := "java/lang/Object", name := "getClass", desc := "()Ljava/lang/Class;" } : Jvm.MethodName)) ∈ lw_all := lw_g (lw_at lw_m2 199 rfl) rfl
theorem q1375 : (Jvm.Cond.declares ({ cls := "java/lang/Object", name := "getClass", desc := "()Ljava/lang/Class;" } : Jvm.MethodName)) ∈ lw_tbl := lw_at lw_m6 117 rfl
/-! the law's own entry -/
set_option maxRecDepth 100000
abbrev cL_law : ByteArray := code
def dkwL_law_33 : List UInt8 := [96, 46, 182, 0, 107, 159, 0, 5, 3, 172, 132, 3, 7, 167, 252, 185, 4, 172]
abbrev dktL_law_33 : List UInt8 := dkwL_law_33 ++ []
def dkwL_law_32 : List UInt8 := [5, 96, 46, 182, 0, 103, 159, 0, 28, 3, 172, 43, 42, 29, 4, 96, 46, 182, 0, 104, 44, 42, 29, 4]
abbrev dktL_law_32 : List UInt8 := dkwL_law_32 ++ dktL_law_33
def dkwL_law_31 : List UInt8 := [3, 172, 43, 42, 29, 4, 96, 46, 42, 29, 5, 96, 46, 182, 0, 100, 44, 42, 29, 4, 96, 46, 42, 29]
abbrev dktL_law_31 : List UInt8 := dkwL_law_31 ++ dktL_law_32
def dkwL_law_30 : List UInt8 := [29, 5, 96, 46, 182, 0, 96, 44, 42, 29, 4, 96, 46, 42, 29, 5, 96, 46, 182, 0, 99, 159, 0, 61]
abbrev dktL_law_30 : List UInt8 := dkwL_law_30 ++ dktL_law_31
def dkwL_law_29 : List UInt8 := [29, 5, 96, 46, 42, 29, 6, 96, 46, 182, 0, 95, 159, 0, 94, 3, 172, 43, 42, 29, 4, 96, 46, 42]
abbrev dktL_law_29 : List UInt8 := dkwL_law_29 ++ dktL_law_30
def dkwL_law_28 : List UInt8 := [29, 4, 96, 46, 42, 29, 5, 96, 46, 42, 29, 6, 96, 46, 182, 0, 92, 44, 42, 29, 4, 96, 46, 42]
abbrev dktL_law_28 : List UInt8 := dkwL_law_28 ++ dktL_law_29
def dkwL_law_27 : List UInt8 := [182, 0, 88, 44, 42, 29, 4, 96, 46, 42, 29, 5, 96, 46, 182, 0, 91, 159, 0, 137, 3, 172, 43, 42]
abbrev dktL_law_27 : List UInt8 := dkwL_law_27 ++ dktL_law_28
def dkwL_law_26 : List UInt8 := [42, 29, 7, 96, 46, 182, 0, 87, 159, 0, 170, 3, 172, 43, 42, 29, 4, 96, 46, 42, 29, 5, 96, 46]
abbrev dktL_law_26 : List UInt8 := dkwL_law_26 ++ dktL_law_27
def dkwL_law_25 : List UInt8 := [42, 29, 7, 96, 46, 182, 0, 83, 44, 42, 29, 4, 96, 46, 42, 29, 5, 96, 46, 42, 29, 6, 96, 46]
abbrev dktL_law_25 : List UInt8 := dkwL_law_25 ++ dktL_law_26
def dkwL_law_24 : List UInt8 := [182, 0, 82, 159, 0, 223, 3, 172, 43, 42, 29, 4, 96, 46, 42, 29, 5, 96, 46, 42, 29, 6, 96, 46]
abbrev dktL_law_24 : List UInt8 := dkwL_law_24 ++ dktL_law_25
def dkwL_law_23 : List UInt8 := [29, 4, 96, 46, 42, 29, 5, 96, 46, 182, 0, 79, 44, 42, 29, 4, 96, 46, 42, 29, 5, 96, 46]
abbrev dktL_law_23 : List UInt8 := dkwL_law_23 ++ dktL_law_24
def dkwL_law_22 : List UInt8 := [182, 0, 75, 44, 42, 29, 4, 96, 46, 42, 29, 5, 96, 46, 182, 0, 78, 159, 1, 0, 3, 172, 43, 42]
abbrev dktL_law_22 : List UInt8 := dkwL_law_22 ++ dktL_law_23
def dkwL_law_21 : List UInt8 := [4, 96, 46, 182, 0, 74, 159, 1, 33, 3, 172, 43, 42, 29, 4, 96, 46, 42, 29, 5, 96, 46]
abbrev dktL_law_21 : List UInt8 := dkwL_law_21 ++ dktL_law_22
def dkwL_law_20 : List UInt8 := [29, 4, 96, 46, 182, 0, 70, 159, 1, 56, 3, 172, 43, 42, 29, 4, 96, 46, 182, 0, 71, 44, 42, 29]
abbrev dktL_law_20 : List UInt8 := dkwL_law_20 ++ dktL_law_21
def dkwL_law_19 : List UInt8 := [42, 29, 4, 96, 46, 182, 0, 66, 159, 1, 79, 3, 172, 43, 42, 29, 4, 96, 46, 182, 0, 67, 44, 42]
abbrev dktL_law_19 : List UInt8 := dkwL_law_19 ++ dktL_law_20
def dkwL_law_18 : List UInt8 := [46, 42, 29, 5, 96, 46, 182, 0, 61, 159, 1, 102, 3, 172, 43, 42, 29, 4, 96, 46, 182, 0, 62, 44]
abbrev dktL_law_18 : List UInt8 := dkwL_law_18 ++ dktL_law_19
def dkwL_law_17 : List UInt8 := [159, 1, 135, 3, 172, 43, 42, 29, 4, 96, 46, 42, 29, 5, 96, 46, 182, 0, 58, 44, 42, 29, 4, 96]
abbrev dktL_law_17 : List UInt8 := dkwL_law_17 ++ dktL_law_18
def dkwL_law_16 : List UInt8 := [182, 0, 53, 44, 42, 29, 4, 96, 46, 42, 29, 5, 96, 46, 42, 29, 6, 96, 46, 182, 0, 57]
abbrev dktL_law_16 : List UInt8 := dkwL_law_16 ++ dktL_law_17
def dkwL_law_15 : List UInt8 := [182, 0, 52, 159, 1, 178, 3, 172, 43, 42, 29, 4, 96, 46, 42, 29, 5, 96, 46, 42, 29, 6, 96, 46]
abbrev dktL_law_15 : List UInt8 := dkwL_law_15 ++ dktL_law_16
def dkwL_law_14 : List UInt8 := [29, 4, 96, 46, 42, 29, 5, 96, 46, 182, 0, 49, 44, 42, 29, 4, 96, 46, 42, 29, 5, 96, 46]
abbrev dktL_law_14 : List UInt8 := dkwL_law_14 ++ dktL_law_15
def dkwL_law_13 : List UInt8 := [182, 0, 45, 44, 42, 29, 4, 96, 46, 42, 29, 5, 96, 46, 182, 0, 48, 159, 1, 211, 3, 172, 43, 42]
abbrev dktL_law_13 : List UInt8 := dkwL_law_13 ++ dktL_law_14
def dkwL_law_12 : List UInt8 := [182, 0, 41, 44, 182, 0, 44, 159, 1, 244, 3, 172, 43, 42, 29, 4, 96, 46, 42, 29, 5, 96, 46]
abbrev dktL_law_12 : List UInt8 := dkwL_law_12 ++ dktL_law_13
def dkwL_law_11 : List UInt8 := [182, 0, 36, 159, 2, 14, 3, 172, 43, 182, 0, 37, 44, 182, 0, 40, 159, 2, 1, 3, 172, 43]
abbrev dktL_law_11 : List UInt8 := dkwL_law_11 ++ dktL_law_12
def dkwL_law_10 : List UInt8 := [159, 2, 40, 3, 172, 43, 182, 0, 28, 44, 182, 0, 32, 159, 2, 27, 3, 172, 43, 182, 0, 33, 44]
abbrev dktL_law_10 : List UInt8 := dkwL_law_10 ++ dktL_law_11
def dkwL_law_9 : List UInt8 := [46, 42, 29, 5, 96, 46, 42, 29, 6, 96, 46, 42, 29, 7, 96, 46, 42, 29, 8, 96, 46, 182, 0, 27]
abbrev dktL_law_9 : List UInt8 := dkwL_law_9 ++ dktL_law_10
def dkwL_law_8 : List UInt8 := [46, 42, 29, 6, 96, 46, 42, 29, 7, 96, 46, 42, 29, 8, 96, 46, 182, 0, 23, 44, 42, 29, 4, 96]
abbrev dktL_law_8 : List UInt8 := dkwL_law_8 ++ dktL_law_9
def dkwL_law_7 : List UInt8 := [46, 42, 29, 5, 96, 46, 182, 0, 22, 159, 2, 103, 3, 172, 43, 42, 29, 4, 96, 46, 42, 29, 5, 96]
abbrev dktL_law_7 : List UInt8 := dkwL_law_7 ++ dktL_law_8
def dkwL_law_6 : List UInt8 := [159, 2, 136, 3, 172, 43, 42, 29, 4, 96, 46, 42, 29, 5, 96, 46, 182, 0, 18, 44, 42, 29, 4, 96]
abbrev dktL_law_6 : List UInt8 := dkwL_law_6 ++ dktL_law_7
def dkwL_law_5 : List UInt8 := [6, 96, 46, 42, 29, 7, 96, 46, 42, 29, 8, 96, 46, 42, 29, 16, 6, 96, 46, 182, 0, 17]
abbrev dktL_law_5 : List UInt8 := dkwL_law_5 ++ dktL_law_6
def dkwL_law_4 : List UInt8 := [96, 46, 42, 29, 16, 6, 96, 46, 182, 0, 13, 44, 42, 29, 4, 96, 46, 42, 29, 5, 96, 46, 42, 29]
abbrev dktL_law_4 : List UInt8 := dkwL_law_4 ++ dktL_law_5
def dkwL_law_3 : List UInt8 := [43, 42, 29, 4, 96, 46, 42, 29, 5, 96, 46, 42, 29, 6, 96, 46, 42, 29, 7, 96, 46, 42, 29, 8]
abbrev dktL_law_3 : List UInt8 := dkwL_law_3 ++ dktL_law_4
def dkwL_law_2 : List UInt8 := [170, 0, 0, 0, 0, 3, 53, 0, 0, 0, 0, 0, 0, 0, 21, 0, 0, 0, 103, 0, 0, 0, 178, 0, 0, 0, 211, 0, 0, 1, 18, 0, 0, 1, 31, 0, 0, 1, 44, 0, 0, 1, 57, 0, 0, 1, 70, 0, 0, 1, 103, 0, 0, 1, 136, 0, 0, 1, 179, 0, 0, 1, 212, 0, 0, 1, 235, 0, 0, 2, 2, 0, 0, 2, 25, 0, 0, 2, 58, 0, 0, 2, 91, 0, 0, 2, 144, 0, 0, 2, 177, 0, 0, 2, 220, 0, 0, 2, 253, 0, 0, 3, 30]
abbrev dktL_law_2 : List UInt8 := dkwL_law_2 ++ dktL_law_3
def dkwL_law_1 : List UInt8 := [163, 3, 68, 42, 29, 46, 16, 31, 126]
abbrev dktL_law_1 : List UInt8 := dkwL_law_1 ++ dktL_law_2
def dkwL_law_0 : List UInt8 := [187, 0, 7, 89, 183, 0, 9, 76, 187, 0, 10, 89, 183, 0, 12, 77, 3, 62, 29, 42, 190, 16, 7, 100]
abbrev dktL_law_0 : List UInt8 := dkwL_law_0 ++ dktL_law_1
theorem dksL_law_0 : cL_law.data.toList.drop 0 = dktL_law_0 := by decide +kernel
theorem dksL_law_1 : cL_law.data.toList.drop 24 = dktL_law_1 := dk_seg dksL_law_0 24 rfl rfl
theorem dksL_law_2 : cL_law.data.toList.drop 33 = dktL_law_2 := dk_seg dksL_law_1 9 rfl rfl
theorem dksL_law_3 : cL_law.data.toList.drop 136 = dktL_law_3 := dk_seg dksL_law_2 103 rfl rfl
theorem dksL_law_4 : cL_law.data.toList.drop 160 = dktL_law_4 := dk_seg dksL_law_3 24 rfl rfl
theorem dksL_law_5 : cL_law.data.toList.drop 184 = dktL_law_5 := dk_seg dksL_law_4 24 rfl rfl
theorem dksL_law_6 : cL_law.data.toList.drop 206 = dktL_law_6 := dk_seg dksL_law_5 22 rfl rfl
theorem dksL_law_7 : cL_law.data.toList.drop 230 = dktL_law_7 := dk_seg dksL_law_6 24 rfl rfl
theorem dksL_law_8 : cL_law.data.toList.drop 254 = dktL_law_8 := dk_seg dksL_law_7 24 rfl rfl
theorem dksL_law_9 : cL_law.data.toList.drop 278 = dktL_law_9 := dk_seg dksL_law_8 24 rfl rfl
theorem dksL_law_10 : cL_law.data.toList.drop 302 = dktL_law_10 := dk_seg dksL_law_9 24 rfl rfl
theorem dksL_law_11 : cL_law.data.toList.drop 325 = dktL_law_11 := dk_seg dksL_law_10 23 rfl rfl
theorem dksL_law_12 : cL_law.data.toList.drop 347 = dktL_law_12 := dk_seg dksL_law_11 22 rfl rfl
theorem dksL_law_13 : cL_law.data.toList.drop 370 = dktL_law_13 := dk_seg dksL_law_12 23 rfl rfl
theorem dksL_law_14 : cL_law.data.toList.drop 394 = dktL_law_14 := dk_seg dksL_law_13 24 rfl rfl
theorem dksL_law_15 : cL_law.data.toList.drop 417 = dktL_law_15 := dk_seg dksL_law_14 23 rfl rfl
theorem dksL_law_16 : cL_law.data.toList.drop 441 = dktL_law_16 := dk_seg dksL_law_15 24 rfl rfl
theorem dksL_law_17 : cL_law.data.toList.drop 463 = dktL_law_17 := dk_seg dksL_law_16 22 rfl rfl
theorem dksL_law_18 : cL_law.data.toList.drop 487 = dktL_law_18 := dk_seg dksL_law_17 24 rfl rfl
theorem dksL_law_19 : cL_law.data.toList.drop 511 = dktL_law_19 := dk_seg dksL_law_18 24 rfl rfl
theorem dksL_law_20 : cL_law.data.toList.drop 535 = dktL_law_20 := dk_seg dksL_law_19 24 rfl rfl
theorem dksL_law_21 : cL_law.data.toList.drop 559 = dktL_law_21 := dk_seg dksL_law_20 24 rfl rfl
theorem dksL_law_22 : cL_law.data.toList.drop 581 = dktL_law_22 := dk_seg dksL_law_21 22 rfl rfl
theorem dksL_law_23 : cL_law.data.toList.drop 605 = dktL_law_23 := dk_seg dksL_law_22 24 rfl rfl
theorem dksL_law_24 : cL_law.data.toList.drop 628 = dktL_law_24 := dk_seg dksL_law_23 23 rfl rfl
theorem dksL_law_25 : cL_law.data.toList.drop 652 = dktL_law_25 := dk_seg dksL_law_24 24 rfl rfl
theorem dksL_law_26 : cL_law.data.toList.drop 676 = dktL_law_26 := dk_seg dksL_law_25 24 rfl rfl
theorem dksL_law_27 : cL_law.data.toList.drop 700 = dktL_law_27 := dk_seg dksL_law_26 24 rfl rfl
theorem dksL_law_28 : cL_law.data.toList.drop 724 = dktL_law_28 := dk_seg dksL_law_27 24 rfl rfl
theorem dksL_law_29 : cL_law.data.toList.drop 748 = dktL_law_29 := dk_seg dksL_law_28 24 rfl rfl
theorem dksL_law_30 : cL_law.data.toList.drop 772 = dktL_law_30 := dk_seg dksL_law_29 24 rfl rfl
theorem dksL_law_31 : cL_law.data.toList.drop 796 = dktL_law_31 := dk_seg dksL_law_30 24 rfl rfl
theorem dksL_law_32 : cL_law.data.toList.drop 820 = dktL_law_32 := dk_seg dksL_law_31 24 rfl rfl
theorem dksL_law_33 : cL_law.data.toList.drop 844 = dktL_law_33 := dk_seg dksL_law_32 24 rfl rfl
theorem dL_law_0 : decode cL_law 0 = .ok (.new 7, 3) := dk_187 0 7 (dk_at dksL_law_0 0 rfl rfl)
theorem dL_law_3 : decode cL_law 3 = .ok (.dup, 1) := dk_89 (dk_at dksL_law_0 3 rfl rfl)
theorem dL_law_4 : decode cL_law 4 = .ok (.invokespecial 9, 3) := dk_183 0 9 (dk_at dksL_law_0 4 rfl rfl)
theorem dL_law_7 : decode cL_law 7 = .ok (.astore_n 1, 1) := dk_76 (dk_at dksL_law_0 7 rfl rfl)
theorem dL_law_8 : decode cL_law 8 = .ok (.new 10, 3) := dk_187 0 10 (dk_at dksL_law_0 8 rfl rfl)
theorem dL_law_11 : decode cL_law 11 = .ok (.dup, 1) := dk_89 (dk_at dksL_law_0 11 rfl rfl)
theorem dL_law_12 : decode cL_law 12 = .ok (.invokespecial 12, 3) := dk_183 0 12 (dk_at dksL_law_0 12 rfl rfl)
theorem dL_law_15 : decode cL_law 15 = .ok (.astore_n 2, 1) := dk_77 (dk_at dksL_law_0 15 rfl rfl)
theorem dL_law_16 : decode cL_law 16 = .ok (.iconst 0, 1) := dk_3 (dk_at dksL_law_0 16 rfl rfl)
theorem dL_law_17 : decode cL_law 17 = .ok (.istore_n 3, 1) := dk_62 (dk_at dksL_law_0 17 rfl rfl)
theorem dL_law_18 : decode cL_law 18 = .ok (.iload_n 3, 1) := dk_29 (dk_at dksL_law_0 18 rfl rfl)
theorem dL_law_19 : decode cL_law 19 = .ok (.aload_n 0, 1) := dk_42 (dk_at dksL_law_0 19 rfl rfl)
theorem dL_law_20 : decode cL_law 20 = .ok (.arraylength, 1) := dk_190 (dk_at dksL_law_0 20 rfl rfl)
theorem dL_law_21 : decode cL_law 21 = .ok (.bipush 7, 2) := dk_16 7 (dk_at dksL_law_0 21 rfl rfl)
theorem dL_law_23 : decode cL_law 23 = .ok (.isub, 1) := dk_100 (dk_at dksL_law_0 23 rfl rfl)
theorem dL_law_24 : decode cL_law 24 = .ok (.if_icmp .gt 836, 3) := dk_163 3 68 (dk_at dksL_law_1 0 rfl rfl)
theorem dL_law_27 : decode cL_law 27 = .ok (.aload_n 0, 1) := dk_42 (dk_at dksL_law_1 3 rfl rfl)
theorem dL_law_28 : decode cL_law 28 = .ok (.iload_n 3, 1) := dk_29 (dk_at dksL_law_1 4 rfl rfl)
theorem dL_law_29 : decode cL_law 29 = .ok (.iaload, 1) := dk_46 (dk_at dksL_law_1 5 rfl rfl)
theorem dL_law_30 : decode cL_law 30 = .ok (.bipush 31, 2) := dk_16 31 (dk_at dksL_law_1 6 rfl rfl)
theorem dL_law_32 : decode cL_law 32 = .ok (.iand, 1) := dk_126 (dk_at dksL_law_1 8 rfl rfl)
theorem dL_law_33 : decode cL_law 33 = .ok (.tableswitch 821 0 21 #[103, 178, 211, 274, 287, 300, 313, 326, 359, 392, 435, 468, 491, 514, 537, 570, 603, 656, 689, 732, 765, 798], 103) := by decide +kernel
theorem dL_law_136 : decode cL_law 136 = .ok (.aload_n 1, 1) := dk_43 (dk_at dksL_law_3 0 rfl rfl)
theorem dL_law_137 : decode cL_law 137 = .ok (.aload_n 0, 1) := dk_42 (dk_at dksL_law_3 1 rfl rfl)
theorem dL_law_138 : decode cL_law 138 = .ok (.iload_n 3, 1) := dk_29 (dk_at dksL_law_3 2 rfl rfl)
theorem dL_law_139 : decode cL_law 139 = .ok (.iconst 1, 1) := dk_4 (dk_at dksL_law_3 3 rfl rfl)
theorem dL_law_140 : decode cL_law 140 = .ok (.iadd, 1) := dk_96 (dk_at dksL_law_3 4 rfl rfl)
theorem dL_law_141 : decode cL_law 141 = .ok (.iaload, 1) := dk_46 (dk_at dksL_law_3 5 rfl rfl)
theorem dL_law_142 : decode cL_law 142 = .ok (.aload_n 0, 1) := dk_42 (dk_at dksL_law_3 6 rfl rfl)
theorem dL_law_143 : decode cL_law 143 = .ok (.iload_n 3, 1) := dk_29 (dk_at dksL_law_3 7 rfl rfl)
theorem dL_law_144 : decode cL_law 144 = .ok (.iconst 2, 1) := dk_5 (dk_at dksL_law_3 8 rfl rfl)
theorem dL_law_145 : decode cL_law 145 = .ok (.iadd, 1) := dk_96 (dk_at dksL_law_3 9 rfl rfl)
theorem dL_law_146 : decode cL_law 146 = .ok (.iaload, 1) := dk_46 (dk_at dksL_law_3 10 rfl rfl)
theorem dL_law_147 : decode cL_law 147 = .ok (.aload_n 0, 1) := dk_42 (dk_at dksL_law_3 11 rfl rfl)
theorem dL_law_148 : decode cL_law 148 = .ok (.iload_n 3, 1) := dk_29 (dk_at dksL_law_3 12 rfl rfl)
theorem dL_law_149 : decode cL_law 149 = .ok (.iconst 3, 1) := dk_6 (dk_at dksL_law_3 13 rfl rfl)
theorem dL_law_150 : decode cL_law 150 = .ok (.iadd, 1) := dk_96 (dk_at dksL_law_3 14 rfl rfl)
theorem dL_law_151 : decode cL_law 151 = .ok (.iaload, 1) := dk_46 (dk_at dksL_law_3 15 rfl rfl)
theorem dL_law_152 : decode cL_law 152 = .ok (.aload_n 0, 1) := dk_42 (dk_at dksL_law_3 16 rfl rfl)
theorem dL_law_153 : decode cL_law 153 = .ok (.iload_n 3, 1) := dk_29 (dk_at dksL_law_3 17 rfl rfl)
theorem dL_law_154 : decode cL_law 154 = .ok (.iconst 4, 1) := dk_7 (dk_at dksL_law_3 18 rfl rfl)
theorem dL_law_155 : decode cL_law 155 = .ok (.iadd, 1) := dk_96 (dk_at dksL_law_3 19 rfl rfl)
theorem dL_law_156 : decode cL_law 156 = .ok (.iaload, 1) := dk_46 (dk_at dksL_law_3 20 rfl rfl)
theorem dL_law_157 : decode cL_law 157 = .ok (.aload_n 0, 1) := dk_42 (dk_at dksL_law_3 21 rfl rfl)
theorem dL_law_158 : decode cL_law 158 = .ok (.iload_n 3, 1) := dk_29 (dk_at dksL_law_3 22 rfl rfl)
theorem dL_law_159 : decode cL_law 159 = .ok (.iconst 5, 1) := dk_8 (dk_at dksL_law_3 23 rfl rfl)
theorem dL_law_160 : decode cL_law 160 = .ok (.iadd, 1) := dk_96 (dk_at dksL_law_4 0 rfl rfl)
theorem dL_law_161 : decode cL_law 161 = .ok (.iaload, 1) := dk_46 (dk_at dksL_law_4 1 rfl rfl)
theorem dL_law_162 : decode cL_law 162 = .ok (.aload_n 0, 1) := dk_42 (dk_at dksL_law_4 2 rfl rfl)
theorem dL_law_163 : decode cL_law 163 = .ok (.iload_n 3, 1) := dk_29 (dk_at dksL_law_4 3 rfl rfl)
theorem dL_law_164 : decode cL_law 164 = .ok (.bipush 6, 2) := dk_16 6 (dk_at dksL_law_4 4 rfl rfl)
theorem dL_law_166 : decode cL_law 166 = .ok (.iadd, 1) := dk_96 (dk_at dksL_law_4 6 rfl rfl)
theorem dL_law_167 : decode cL_law 167 = .ok (.iaload, 1) := dk_46 (dk_at dksL_law_4 7 rfl rfl)
theorem dL_law_168 : decode cL_law 168 = .ok (.invokevirtual 13, 3) := dk_182 0 13 (dk_at dksL_law_4 8 rfl rfl)
theorem dL_law_171 : decode cL_law 171 = .ok (.aload_n 2, 1) := dk_44 (dk_at dksL_law_4 11 rfl rfl)
theorem dL_law_172 : decode cL_law 172 = .ok (.aload_n 0, 1) := dk_42 (dk_at dksL_law_4 12 rfl rfl)
theorem dL_law_173 : decode cL_law 173 = .ok (.iload_n 3, 1) := dk_29 (dk_at dksL_law_4 13 rfl rfl)
theorem dL_law_174 : decode cL_law 174 = .ok (.iconst 1, 1) := dk_4 (dk_at dksL_law_4 14 rfl rfl)
theorem dL_law_175 : decode cL_law 175 = .ok (.iadd, 1) := dk_96 (dk_at dksL_law_4 15 rfl rfl)
theorem dL_law_176 : decode cL_law 176 = .ok (.iaload, 1) := dk_46 (dk_at dksL_law_4 16 rfl rfl)
theorem dL_law_177 : decode cL_law 177 = .ok (.aload_n 0, 1) := dk_42 (dk_at dksL_law_4 17 rfl rfl)
theorem dL_law_178 : decode cL_law 178 = .ok (.iload_n 3, 1) := dk_29 (dk_at dksL_law_4 18 rfl rfl)
theorem dL_law_179 : decode cL_law 179 = .ok (.iconst 2, 1) := dk_5 (dk_at dksL_law_4 19 rfl rfl)
theorem dL_law_180 : decode cL_law 180 = .ok (.iadd, 1) := dk_96 (dk_at dksL_law_4 20 rfl rfl)
theorem dL_law_181 : decode cL_law 181 = .ok (.iaload, 1) := dk_46 (dk_at dksL_law_4 21 rfl rfl)
theorem dL_law_182 : decode cL_law 182 = .ok (.aload_n 0, 1) := dk_42 (dk_at dksL_law_4 22 rfl rfl)
theorem dL_law_183 : decode cL_law 183 = .ok (.iload_n 3, 1) := dk_29 (dk_at dksL_law_4 23 rfl rfl)
theorem dL_law_184 : decode cL_law 184 = .ok (.iconst 3, 1) := dk_6 (dk_at dksL_law_5 0 rfl rfl)
theorem dL_law_185 : decode cL_law 185 = .ok (.iadd, 1) := dk_96 (dk_at dksL_law_5 1 rfl rfl)
theorem dL_law_186 : decode cL_law 186 = .ok (.iaload, 1) := dk_46 (dk_at dksL_law_5 2 rfl rfl)
theorem dL_law_187 : decode cL_law 187 = .ok (.aload_n 0, 1) := dk_42 (dk_at dksL_law_5 3 rfl rfl)
theorem dL_law_188 : decode cL_law 188 = .ok (.iload_n 3, 1) := dk_29 (dk_at dksL_law_5 4 rfl rfl)
theorem dL_law_189 : decode cL_law 189 = .ok (.iconst 4, 1) := dk_7 (dk_at dksL_law_5 5 rfl rfl)
theorem dL_law_190 : decode cL_law 190 = .ok (.iadd, 1) := dk_96 (dk_at dksL_law_5 6 rfl rfl)
theorem dL_law_191 : decode cL_law 191 = .ok (.iaload, 1) := dk_46 (dk_at dksL_law_5 7 rfl rfl)
theorem dL_law_192 : decode cL_law 192 = .ok (.aload_n 0, 1) := dk_42 (dk_at dksL_law_5 8 rfl rfl)
theorem dL_law_193 : decode cL_law 193 = .ok (.iload_n 3, 1) := dk_29 (dk_at dksL_law_5 9 rfl rfl)
theorem dL_law_194 : decode cL_law 194 = .ok (.iconst 5, 1) := dk_8 (dk_at dksL_law_5 10 rfl rfl)
theorem dL_law_195 : decode cL_law 195 = .ok (.iadd, 1) := dk_96 (dk_at dksL_law_5 11 rfl rfl)
theorem dL_law_196 : decode cL_law 196 = .ok (.iaload, 1) := dk_46 (dk_at dksL_law_5 12 rfl rfl)
theorem dL_law_197 : decode cL_law 197 = .ok (.aload_n 0, 1) := dk_42 (dk_at dksL_law_5 13 rfl rfl)
theorem dL_law_198 : decode cL_law 198 = .ok (.iload_n 3, 1) := dk_29 (dk_at dksL_law_5 14 rfl rfl)
theorem dL_law_199 : decode cL_law 199 = .ok (.bipush 6, 2) := dk_16 6 (dk_at dksL_law_5 15 rfl rfl)
theorem dL_law_201 : decode cL_law 201 = .ok (.iadd, 1) := dk_96 (dk_at dksL_law_5 17 rfl rfl)
theorem dL_law_202 : decode cL_law 202 = .ok (.iaload, 1) := dk_46 (dk_at dksL_law_5 18 rfl rfl)
theorem dL_law_203 : decode cL_law 203 = .ok (.invokevirtual 17, 3) := dk_182 0 17 (dk_at dksL_law_5 19 rfl rfl)
theorem dL_law_206 : decode cL_law 206 = .ok (.if_icmp .eq 648, 3) := dk_159 2 136 (dk_at dksL_law_6 0 rfl rfl)
theorem dL_law_209 : decode cL_law 209 = .ok (.iconst 0, 1) := dk_3 (dk_at dksL_law_6 3 rfl rfl)
theorem dL_law_210 : decode cL_law 210 = .ok (.ireturn, 1) := dk_172 (dk_at dksL_law_6 4 rfl rfl)
theorem dL_law_211 : decode cL_law 211 = .ok (.aload_n 1, 1) := dk_43 (dk_at dksL_law_6 5 rfl rfl)
theorem dL_law_212 : decode cL_law 212 = .ok (.aload_n 0, 1) := dk_42 (dk_at dksL_law_6 6 rfl rfl)
theorem dL_law_213 : decode cL_law 213 = .ok (.iload_n 3, 1) := dk_29 (dk_at dksL_law_6 7 rfl rfl)
theorem dL_law_214 : decode cL_law 214 = .ok (.iconst 1, 1) := dk_4 (dk_at dksL_law_6 8 rfl rfl)
theorem dL_law_215 : decode cL_law 215 = .ok (.iadd, 1) := dk_96 (dk_at dksL_law_6 9 rfl rfl)
theorem dL_law_216 : decode cL_law 216 = .ok (.iaload, 1) := dk_46 (dk_at dksL_law_6 10 rfl rfl)
theorem dL_law_217 : decode cL_law 217 = .ok (.aload_n 0, 1) := dk_42 (dk_at dksL_law_6 11 rfl rfl)
theorem dL_law_218 : decode cL_law 218 = .ok (.iload_n 3, 1) := dk_29 (dk_at dksL_law_6 12 rfl rfl)
theorem dL_law_219 : decode cL_law 219 = .ok (.iconst 2, 1) := dk_5 (dk_at dksL_law_6 13 rfl rfl)
theorem dL_law_220 : decode cL_law 220 = .ok (.iadd, 1) := dk_96 (dk_at dksL_law_6 14 rfl rfl)
theorem dL_law_221 : decode cL_law 221 = .ok (.iaload, 1) := dk_46 (dk_at dksL_law_6 15 rfl rfl)
theorem dL_law_222 : decode cL_law 222 = .ok (.invokevirtual 18, 3) := dk_182 0 18 (dk_at dksL_law_6 16 rfl rfl)
theorem dL_law_225 : decode cL_law 225 = .ok (.aload_n 2, 1) := dk_44 (dk_at dksL_law_6 19 rfl rfl)
theorem dL_law_226 : decode cL_law 226 = .ok (.aload_n 0, 1) := dk_42 (dk_at dksL_law_6 20 rfl rfl)
theorem dL_law_227 : decode cL_law 227 = .ok (.iload_n 3, 1) := dk_29 (dk_at dksL_law_6 21 rfl rfl)
theorem dL_law_228 : decode cL_law 228 = .ok (.iconst 1, 1) := dk_4 (dk_at dksL_law_6 22 rfl rfl)
theorem dL_law_229 : decode cL_law 229 = .ok (.iadd, 1) := dk_96 (dk_at dksL_law_6 23 rfl rfl)
theorem dL_law_230 : decode cL_law 230 = .ok (.iaload, 1) := dk_46 (dk_at dksL_law_7 0 rfl rfl)
theorem dL_law_231 : decode cL_law 231 = .ok (.aload_n 0, 1) := dk_42 (dk_at dksL_law_7 1 rfl rfl)
theorem dL_law_232 : decode cL_law 232 = .ok (.iload_n 3, 1) := dk_29 (dk_at dksL_law_7 2 rfl rfl)
theorem dL_law_233 : decode cL_law 233 = .ok (.iconst 2, 1) := dk_5 (dk_at dksL_law_7 3 rfl rfl)
theorem dL_law_234 : decode cL_law 234 = .ok (.iadd, 1) := dk_96 (dk_at dksL_law_7 4 rfl rfl)
theorem dL_law_235 : decode cL_law 235 = .ok (.iaload, 1) := dk_46 (dk_at dksL_law_7 5 rfl rfl)
theorem dL_law_236 : decode cL_law 236 = .ok (.invokevirtual 22, 3) := dk_182 0 22 (dk_at dksL_law_7 6 rfl rfl)
theorem dL_law_239 : decode cL_law 239 = .ok (.if_icmp .eq 615, 3) := dk_159 2 103 (dk_at dksL_law_7 9 rfl rfl)
theorem dL_law_242 : decode cL_law 242 = .ok (.iconst 0, 1) := dk_3 (dk_at dksL_law_7 12 rfl rfl)
theorem dL_law_243 : decode cL_law 243 = .ok (.ireturn, 1) := dk_172 (dk_at dksL_law_7 13 rfl rfl)
theorem dL_law_244 : decode cL_law 244 = .ok (.aload_n 1, 1) := dk_43 (dk_at dksL_law_7 14 rfl rfl)
theorem dL_law_245 : decode cL_law 245 = .ok (.aload_n 0, 1) := dk_42 (dk_at dksL_law_7 15 rfl rfl)
theorem dL_law_246 : decode cL_law 246 = .ok (.iload_n 3, 1) := dk_29 (dk_at dksL_law_7 16 rfl rfl)
theorem dL_law_247 : decode cL_law 247 = .ok (.iconst 1, 1) := dk_4 (dk_at dksL_law_7 17 rfl rfl)
theorem dL_law_248 : decode cL_law 248 = .ok (.iadd, 1) := dk_96 (dk_at dksL_law_7 18 rfl rfl)
theorem dL_law_249 : decode cL_law 249 = .ok (.iaload, 1) := dk_46 (dk_at dksL_law_7 19 rfl rfl)
theorem dL_law_250 : decode cL_law 250 = .ok (.aload_n 0, 1) := dk_42 (dk_at dksL_law_7 20 rfl rfl)
theorem dL_law_251 : decode cL_law 251 = .ok (.iload_n 3, 1) := dk_29 (dk_at dksL_law_7 21 rfl rfl)
theorem dL_law_252 : decode cL_law 252 = .ok (.iconst 2, 1) := dk_5 (dk_at dksL_law_7 22 rfl rfl)
theorem dL_law_253 : decode cL_law 253 = .ok (.iadd, 1) := dk_96 (dk_at dksL_law_7 23 rfl rfl)
theorem dL_law_254 : decode cL_law 254 = .ok (.iaload, 1) := dk_46 (dk_at dksL_law_8 0 rfl rfl)
theorem dL_law_255 : decode cL_law 255 = .ok (.aload_n 0, 1) := dk_42 (dk_at dksL_law_8 1 rfl rfl)
theorem dL_law_256 : decode cL_law 256 = .ok (.iload_n 3, 1) := dk_29 (dk_at dksL_law_8 2 rfl rfl)
theorem dL_law_257 : decode cL_law 257 = .ok (.iconst 3, 1) := dk_6 (dk_at dksL_law_8 3 rfl rfl)
theorem dL_law_258 : decode cL_law 258 = .ok (.iadd, 1) := dk_96 (dk_at dksL_law_8 4 rfl rfl)
theorem dL_law_259 : decode cL_law 259 = .ok (.iaload, 1) := dk_46 (dk_at dksL_law_8 5 rfl rfl)
theorem dL_law_260 : decode cL_law 260 = .ok (.aload_n 0, 1) := dk_42 (dk_at dksL_law_8 6 rfl rfl)
theorem dL_law_261 : decode cL_law 261 = .ok (.iload_n 3, 1) := dk_29 (dk_at dksL_law_8 7 rfl rfl)
theorem dL_law_262 : decode cL_law 262 = .ok (.iconst 4, 1) := dk_7 (dk_at dksL_law_8 8 rfl rfl)
theorem dL_law_263 : decode cL_law 263 = .ok (.iadd, 1) := dk_96 (dk_at dksL_law_8 9 rfl rfl)
theorem dL_law_264 : decode cL_law 264 = .ok (.iaload, 1) := dk_46 (dk_at dksL_law_8 10 rfl rfl)
theorem dL_law_265 : decode cL_law 265 = .ok (.aload_n 0, 1) := dk_42 (dk_at dksL_law_8 11 rfl rfl)
theorem dL_law_266 : decode cL_law 266 = .ok (.iload_n 3, 1) := dk_29 (dk_at dksL_law_8 12 rfl rfl)
theorem dL_law_267 : decode cL_law 267 = .ok (.iconst 5, 1) := dk_8 (dk_at dksL_law_8 13 rfl rfl)
theorem dL_law_268 : decode cL_law 268 = .ok (.iadd, 1) := dk_96 (dk_at dksL_law_8 14 rfl rfl)
theorem dL_law_269 : decode cL_law 269 = .ok (.iaload, 1) := dk_46 (dk_at dksL_law_8 15 rfl rfl)
theorem dL_law_270 : decode cL_law 270 = .ok (.invokevirtual 23, 3) := dk_182 0 23 (dk_at dksL_law_8 16 rfl rfl)
theorem dL_law_273 : decode cL_law 273 = .ok (.aload_n 2, 1) := dk_44 (dk_at dksL_law_8 19 rfl rfl)
theorem dL_law_274 : decode cL_law 274 = .ok (.aload_n 0, 1) := dk_42 (dk_at dksL_law_8 20 rfl rfl)
theorem dL_law_275 : decode cL_law 275 = .ok (.iload_n 3, 1) := dk_29 (dk_at dksL_law_8 21 rfl rfl)
theorem dL_law_276 : decode cL_law 276 = .ok (.iconst 1, 1) := dk_4 (dk_at dksL_law_8 22 rfl rfl)
theorem dL_law_277 : decode cL_law 277 = .ok (.iadd, 1) := dk_96 (dk_at dksL_law_8 23 rfl rfl)
theorem dL_law_278 : decode cL_law 278 = .ok (.iaload, 1) := dk_46 (dk_at dksL_law_9 0 rfl rfl)
theorem dL_law_279 : decode cL_law 279 = .ok (.aload_n 0, 1) := dk_42 (dk_at dksL_law_9 1 rfl rfl)
theorem dL_law_280 : decode cL_law 280 = .ok (.iload_n 3, 1) := dk_29 (dk_at dksL_law_9 2 rfl rfl)
theorem dL_law_281 : decode cL_law 281 = .ok (.iconst 2, 1) := dk_5 (dk_at dksL_law_9 3 rfl rfl)
theorem dL_law_282 : decode cL_law 282 = .ok (.iadd, 1) := dk_96 (dk_at dksL_law_9 4 rfl rfl)
theorem dL_law_283 : decode cL_law 283 = .ok (.iaload, 1) := dk_46 (dk_at dksL_law_9 5 rfl rfl)
theorem dL_law_284 : decode cL_law 284 = .ok (.aload_n 0, 1) := dk_42 (dk_at dksL_law_9 6 rfl rfl)
theorem dL_law_285 : decode cL_law 285 = .ok (.iload_n 3, 1) := dk_29 (dk_at dksL_law_9 7 rfl rfl)
theorem dL_law_286 : decode cL_law 286 = .ok (.iconst 3, 1) := dk_6 (dk_at dksL_law_9 8 rfl rfl)
theorem dL_law_287 : decode cL_law 287 = .ok (.iadd, 1) := dk_96 (dk_at dksL_law_9 9 rfl rfl)
theorem dL_law_288 : decode cL_law 288 = .ok (.iaload, 1) := dk_46 (dk_at dksL_law_9 10 rfl rfl)
theorem dL_law_289 : decode cL_law 289 = .ok (.aload_n 0, 1) := dk_42 (dk_at dksL_law_9 11 rfl rfl)
theorem dL_law_290 : decode cL_law 290 = .ok (.iload_n 3, 1) := dk_29 (dk_at dksL_law_9 12 rfl rfl)
theorem dL_law_291 : decode cL_law 291 = .ok (.iconst 4, 1) := dk_7 (dk_at dksL_law_9 13 rfl rfl)
theorem dL_law_292 : decode cL_law 292 = .ok (.iadd, 1) := dk_96 (dk_at dksL_law_9 14 rfl rfl)
theorem dL_law_293 : decode cL_law 293 = .ok (.iaload, 1) := dk_46 (dk_at dksL_law_9 15 rfl rfl)
theorem dL_law_294 : decode cL_law 294 = .ok (.aload_n 0, 1) := dk_42 (dk_at dksL_law_9 16 rfl rfl)
theorem dL_law_295 : decode cL_law 295 = .ok (.iload_n 3, 1) := dk_29 (dk_at dksL_law_9 17 rfl rfl)
theorem dL_law_296 : decode cL_law 296 = .ok (.iconst 5, 1) := dk_8 (dk_at dksL_law_9 18 rfl rfl)
theorem dL_law_297 : decode cL_law 297 = .ok (.iadd, 1) := dk_96 (dk_at dksL_law_9 19 rfl rfl)
theorem dL_law_298 : decode cL_law 298 = .ok (.iaload, 1) := dk_46 (dk_at dksL_law_9 20 rfl rfl)
theorem dL_law_299 : decode cL_law 299 = .ok (.invokevirtual 27, 3) := dk_182 0 27 (dk_at dksL_law_9 21 rfl rfl)
theorem dL_law_302 : decode cL_law 302 = .ok (.if_icmp .eq 552, 3) := dk_159 2 40 (dk_at dksL_law_10 0 rfl rfl)
theorem dL_law_305 : decode cL_law 305 = .ok (.iconst 0, 1) := dk_3 (dk_at dksL_law_10 3 rfl rfl)
theorem dL_law_306 : decode cL_law 306 = .ok (.ireturn, 1) := dk_172 (dk_at dksL_law_10 4 rfl rfl)
theorem dL_law_307 : decode cL_law 307 = .ok (.aload_n 1, 1) := dk_43 (dk_at dksL_law_10 5 rfl rfl)
theorem dL_law_308 : decode cL_law 308 = .ok (.invokevirtual 28, 3) := dk_182 0 28 (dk_at dksL_law_10 6 rfl rfl)
theorem dL_law_311 : decode cL_law 311 = .ok (.aload_n 2, 1) := dk_44 (dk_at dksL_law_10 9 rfl rfl)
theorem dL_law_312 : decode cL_law 312 = .ok (.invokevirtual 32, 3) := dk_182 0 32 (dk_at dksL_law_10 10 rfl rfl)
theorem dL_law_315 : decode cL_law 315 = .ok (.if_icmp .eq 539, 3) := dk_159 2 27 (dk_at dksL_law_10 13 rfl rfl)
theorem dL_law_318 : decode cL_law 318 = .ok (.iconst 0, 1) := dk_3 (dk_at dksL_law_10 16 rfl rfl)
theorem dL_law_319 : decode cL_law 319 = .ok (.ireturn, 1) := dk_172 (dk_at dksL_law_10 17 rfl rfl)
theorem dL_law_320 : decode cL_law 320 = .ok (.aload_n 1, 1) := dk_43 (dk_at dksL_law_10 18 rfl rfl)
theorem dL_law_321 : decode cL_law 321 = .ok (.invokevirtual 33, 3) := dk_182 0 33 (dk_at dksL_law_10 19 rfl rfl)
theorem dL_law_324 : decode cL_law 324 = .ok (.aload_n 2, 1) := dk_44 (dk_at dksL_law_10 22 rfl rfl)
theorem dL_law_325 : decode cL_law 325 = .ok (.invokevirtual 36, 3) := dk_182 0 36 (dk_at dksL_law_11 0 rfl rfl)
theorem dL_law_328 : decode cL_law 328 = .ok (.if_icmp .eq 526, 3) := dk_159 2 14 (dk_at dksL_law_11 3 rfl rfl)
theorem dL_law_331 : decode cL_law 331 = .ok (.iconst 0, 1) := dk_3 (dk_at dksL_law_11 6 rfl rfl)
theorem dL_law_332 : decode cL_law 332 = .ok (.ireturn, 1) := dk_172 (dk_at dksL_law_11 7 rfl rfl)
theorem dL_law_333 : decode cL_law 333 = .ok (.aload_n 1, 1) := dk_43 (dk_at dksL_law_11 8 rfl rfl)
theorem dL_law_334 : decode cL_law 334 = .ok (.invokevirtual 37, 3) := dk_182 0 37 (dk_at dksL_law_11 9 rfl rfl)
theorem dL_law_337 : decode cL_law 337 = .ok (.aload_n 2, 1) := dk_44 (dk_at dksL_law_11 12 rfl rfl)
theorem dL_law_338 : decode cL_law 338 = .ok (.invokevirtual 40, 3) := dk_182 0 40 (dk_at dksL_law_11 13 rfl rfl)
theorem dL_law_341 : decode cL_law 341 = .ok (.if_icmp .eq 513, 3) := dk_159 2 1 (dk_at dksL_law_11 16 rfl rfl)
theorem dL_law_344 : decode cL_law 344 = .ok (.iconst 0, 1) := dk_3 (dk_at dksL_law_11 19 rfl rfl)
theorem dL_law_345 : decode cL_law 345 = .ok (.ireturn, 1) := dk_172 (dk_at dksL_law_11 20 rfl rfl)
theorem dL_law_346 : decode cL_law 346 = .ok (.aload_n 1, 1) := dk_43 (dk_at dksL_law_11 21 rfl rfl)
theorem dL_law_347 : decode cL_law 347 = .ok (.invokevirtual 41, 3) := dk_182 0 41 (dk_at dksL_law_12 0 rfl rfl)
theorem dL_law_350 : decode cL_law 350 = .ok (.aload_n 2, 1) := dk_44 (dk_at dksL_law_12 3 rfl rfl)
theorem dL_law_351 : decode cL_law 351 = .ok (.invokevirtual 44, 3) := dk_182 0 44 (dk_at dksL_law_12 4 rfl rfl)
theorem dL_law_354 : decode cL_law 354 = .ok (.if_icmp .eq 500, 3) := dk_159 1 244 (dk_at dksL_law_12 7 rfl rfl)
theorem dL_law_357 : decode cL_law 357 = .ok (.iconst 0, 1) := dk_3 (dk_at dksL_law_12 10 rfl rfl)
theorem dL_law_358 : decode cL_law 358 = .ok (.ireturn, 1) := dk_172 (dk_at dksL_law_12 11 rfl rfl)
theorem dL_law_359 : decode cL_law 359 = .ok (.aload_n 1, 1) := dk_43 (dk_at dksL_law_12 12 rfl rfl)
theorem dL_law_360 : decode cL_law 360 = .ok (.aload_n 0, 1) := dk_42 (dk_at dksL_law_12 13 rfl rfl)
theorem dL_law_361 : decode cL_law 361 = .ok (.iload_n 3, 1) := dk_29 (dk_at dksL_law_12 14 rfl rfl)
theorem dL_law_362 : decode cL_law 362 = .ok (.iconst 1, 1) := dk_4 (dk_at dksL_law_12 15 rfl rfl)
theorem dL_law_363 : decode cL_law 363 = .ok (.iadd, 1) := dk_96 (dk_at dksL_law_12 16 rfl rfl)
theorem dL_law_364 : decode cL_law 364 = .ok (.iaload, 1) := dk_46 (dk_at dksL_law_12 17 rfl rfl)
theorem dL_law_365 : decode cL_law 365 = .ok (.aload_n 0, 1) := dk_42 (dk_at dksL_law_12 18 rfl rfl)
theorem dL_law_366 : decode cL_law 366 = .ok (.iload_n 3, 1) := dk_29 (dk_at dksL_law_12 19 rfl rfl)
theorem dL_law_367 : decode cL_law 367 = .ok (.iconst 2, 1) := dk_5 (dk_at dksL_law_12 20 rfl rfl)
theorem dL_law_368 : decode cL_law 368 = .ok (.iadd, 1) := dk_96 (dk_at dksL_law_12 21 rfl rfl)
theorem dL_law_369 : decode cL_law 369 = .ok (.iaload, 1) := dk_46 (dk_at dksL_law_12 22 rfl rfl)
theorem dL_law_370 : decode cL_law 370 = .ok (.invokevirtual 45, 3) := dk_182 0 45 (dk_at dksL_law_13 0 rfl rfl)
theorem dL_law_373 : decode cL_law 373 = .ok (.aload_n 2, 1) := dk_44 (dk_at dksL_law_13 3 rfl rfl)
theorem dL_law_374 : decode cL_law 374 = .ok (.aload_n 0, 1) := dk_42 (dk_at dksL_law_13 4 rfl rfl)
theorem dL_law_375 : decode cL_law 375 = .ok (.iload_n 3, 1) := dk_29 (dk_at dksL_law_13 5 rfl rfl)
theorem dL_law_376 : decode cL_law 376 = .ok (.iconst 1, 1) := dk_4 (dk_at dksL_law_13 6 rfl rfl)
theorem dL_law_377 : decode cL_law 377 = .ok (.iadd, 1) := dk_96 (dk_at dksL_law_13 7 rfl rfl)
theorem dL_law_378 : decode cL_law 378 = .ok (.iaload, 1) := dk_46 (dk_at dksL_law_13 8 rfl rfl)
theorem dL_law_379 : decode cL_law 379 = .ok (.aload_n 0, 1) := dk_42 (dk_at dksL_law_13 9 rfl rfl)
theorem dL_law_380 : decode cL_law 380 = .ok (.iload_n 3, 1) := dk_29 (dk_at dksL_law_13 10 rfl rfl)
theorem dL_law_381 : decode cL_law 381 = .ok (.iconst 2, 1) := dk_5 (dk_at dksL_law_13 11 rfl rfl)
theorem dL_law_382 : decode cL_law 382 = .ok (.iadd, 1) := dk_96 (dk_at dksL_law_13 12 rfl rfl)
theorem dL_law_383 : decode cL_law 383 = .ok (.iaload, 1) := dk_46 (dk_at dksL_law_13 13 rfl rfl)
theorem dL_law_384 : decode cL_law 384 = .ok (.invokevirtual 48, 3) := dk_182 0 48 (dk_at dksL_law_13 14 rfl rfl)
theorem dL_law_387 : decode cL_law 387 = .ok (.if_icmp .eq 467, 3) := dk_159 1 211 (dk_at dksL_law_13 17 rfl rfl)
theorem dL_law_390 : decode cL_law 390 = .ok (.iconst 0, 1) := dk_3 (dk_at dksL_law_13 20 rfl rfl)
theorem dL_law_391 : decode cL_law 391 = .ok (.ireturn, 1) := dk_172 (dk_at dksL_law_13 21 rfl rfl)
theorem dL_law_392 : decode cL_law 392 = .ok (.aload_n 1, 1) := dk_43 (dk_at dksL_law_13 22 rfl rfl)
theorem dL_law_393 : decode cL_law 393 = .ok (.aload_n 0, 1) := dk_42 (dk_at dksL_law_13 23 rfl rfl)
theorem dL_law_394 : decode cL_law 394 = .ok (.iload_n 3, 1) := dk_29 (dk_at dksL_law_14 0 rfl rfl)
theorem dL_law_395 : decode cL_law 395 = .ok (.iconst 1, 1) := dk_4 (dk_at dksL_law_14 1 rfl rfl)
theorem dL_law_396 : decode cL_law 396 = .ok (.iadd, 1) := dk_96 (dk_at dksL_law_14 2 rfl rfl)
theorem dL_law_397 : decode cL_law 397 = .ok (.iaload, 1) := dk_46 (dk_at dksL_law_14 3 rfl rfl)
theorem dL_law_398 : decode cL_law 398 = .ok (.aload_n 0, 1) := dk_42 (dk_at dksL_law_14 4 rfl rfl)
theorem dL_law_399 : decode cL_law 399 = .ok (.iload_n 3, 1) := dk_29 (dk_at dksL_law_14 5 rfl rfl)
theorem dL_law_400 : decode cL_law 400 = .ok (.iconst 2, 1) := dk_5 (dk_at dksL_law_14 6 rfl rfl)
theorem dL_law_401 : decode cL_law 401 = .ok (.iadd, 1) := dk_96 (dk_at dksL_law_14 7 rfl rfl)
theorem dL_law_402 : decode cL_law 402 = .ok (.iaload, 1) := dk_46 (dk_at dksL_law_14 8 rfl rfl)
theorem dL_law_403 : decode cL_law 403 = .ok (.invokevirtual 49, 3) := dk_182 0 49 (dk_at dksL_law_14 9 rfl rfl)
theorem dL_law_406 : decode cL_law 406 = .ok (.aload_n 2, 1) := dk_44 (dk_at dksL_law_14 12 rfl rfl)
theorem dL_law_407 : decode cL_law 407 = .ok (.aload_n 0, 1) := dk_42 (dk_at dksL_law_14 13 rfl rfl)
theorem dL_law_408 : decode cL_law 408 = .ok (.iload_n 3, 1) := dk_29 (dk_at dksL_law_14 14 rfl rfl)
theorem dL_law_409 : decode cL_law 409 = .ok (.iconst 1, 1) := dk_4 (dk_at dksL_law_14 15 rfl rfl)
theorem dL_law_410 : decode cL_law 410 = .ok (.iadd, 1) := dk_96 (dk_at dksL_law_14 16 rfl rfl)
theorem dL_law_411 : decode cL_law 411 = .ok (.iaload, 1) := dk_46 (dk_at dksL_law_14 17 rfl rfl)
theorem dL_law_412 : decode cL_law 412 = .ok (.aload_n 0, 1) := dk_42 (dk_at dksL_law_14 18 rfl rfl)
theorem dL_law_413 : decode cL_law 413 = .ok (.iload_n 3, 1) := dk_29 (dk_at dksL_law_14 19 rfl rfl)
theorem dL_law_414 : decode cL_law 414 = .ok (.iconst 2, 1) := dk_5 (dk_at dksL_law_14 20 rfl rfl)
theorem dL_law_415 : decode cL_law 415 = .ok (.iadd, 1) := dk_96 (dk_at dksL_law_14 21 rfl rfl)
theorem dL_law_416 : decode cL_law 416 = .ok (.iaload, 1) := dk_46 (dk_at dksL_law_14 22 rfl rfl)
theorem dL_law_417 : decode cL_law 417 = .ok (.invokevirtual 52, 3) := dk_182 0 52 (dk_at dksL_law_15 0 rfl rfl)
theorem dL_law_420 : decode cL_law 420 = .ok (.if_icmp .eq 434, 3) := dk_159 1 178 (dk_at dksL_law_15 3 rfl rfl)
theorem dL_law_423 : decode cL_law 423 = .ok (.iconst 0, 1) := dk_3 (dk_at dksL_law_15 6 rfl rfl)
theorem dL_law_424 : decode cL_law 424 = .ok (.ireturn, 1) := dk_172 (dk_at dksL_law_15 7 rfl rfl)
theorem dL_law_425 : decode cL_law 425 = .ok (.aload_n 1, 1) := dk_43 (dk_at dksL_law_15 8 rfl rfl)
theorem dL_law_426 : decode cL_law 426 = .ok (.aload_n 0, 1) := dk_42 (dk_at dksL_law_15 9 rfl rfl)
theorem dL_law_427 : decode cL_law 427 = .ok (.iload_n 3, 1) := dk_29 (dk_at dksL_law_15 10 rfl rfl)
theorem dL_law_428 : decode cL_law 428 = .ok (.iconst 1, 1) := dk_4 (dk_at dksL_law_15 11 rfl rfl)
theorem dL_law_429 : decode cL_law 429 = .ok (.iadd, 1) := dk_96 (dk_at dksL_law_15 12 rfl rfl)
theorem dL_law_430 : decode cL_law 430 = .ok (.iaload, 1) := dk_46 (dk_at dksL_law_15 13 rfl rfl)
theorem dL_law_431 : decode cL_law 431 = .ok (.aload_n 0, 1) := dk_42 (dk_at dksL_law_15 14 rfl rfl)
theorem dL_law_432 : decode cL_law 432 = .ok (.iload_n 3, 1) := dk_29 (dk_at dksL_law_15 15 rfl rfl)
theorem dL_law_433 : decode cL_law 433 = .ok (.iconst 2, 1) := dk_5 (dk_at dksL_law_15 16 rfl rfl)
theorem dL_law_434 : decode cL_law 434 = .ok (.iadd, 1) := dk_96 (dk_at dksL_law_15 17 rfl rfl)
theorem dL_law_435 : decode cL_law 435 = .ok (.iaload, 1) := dk_46 (dk_at dksL_law_15 18 rfl rfl)
theorem dL_law_436 : decode cL_law 436 = .ok (.aload_n 0, 1) := dk_42 (dk_at dksL_law_15 19 rfl rfl)
theorem dL_law_437 : decode cL_law 437 = .ok (.iload_n 3, 1) := dk_29 (dk_at dksL_law_15 20 rfl rfl)
theorem dL_law_438 : decode cL_law 438 = .ok (.iconst 3, 1) := dk_6 (dk_at dksL_law_15 21 rfl rfl)
theorem dL_law_439 : decode cL_law 439 = .ok (.iadd, 1) := dk_96 (dk_at dksL_law_15 22 rfl rfl)
theorem dL_law_440 : decode cL_law 440 = .ok (.iaload, 1) := dk_46 (dk_at dksL_law_15 23 rfl rfl)
theorem dL_law_441 : decode cL_law 441 = .ok (.invokevirtual 53, 3) := dk_182 0 53 (dk_at dksL_law_16 0 rfl rfl)
theorem dL_law_444 : decode cL_law 444 = .ok (.aload_n 2, 1) := dk_44 (dk_at dksL_law_16 3 rfl rfl)
theorem dL_law_445 : decode cL_law 445 = .ok (.aload_n 0, 1) := dk_42 (dk_at dksL_law_16 4 rfl rfl)
theorem dL_law_446 : decode cL_law 446 = .ok (.iload_n 3, 1) := dk_29 (dk_at dksL_law_16 5 rfl rfl)
theorem dL_law_447 : decode cL_law 447 = .ok (.iconst 1, 1) := dk_4 (dk_at dksL_law_16 6 rfl rfl)
theorem dL_law_448 : decode cL_law 448 = .ok (.iadd, 1) := dk_96 (dk_at dksL_law_16 7 rfl rfl)
theorem dL_law_449 : decode cL_law 449 = .ok (.iaload, 1) := dk_46 (dk_at dksL_law_16 8 rfl rfl)
theorem dL_law_450 : decode cL_law 450 = .ok (.aload_n 0, 1) := dk_42 (dk_at dksL_law_16 9 rfl rfl)
theorem dL_law_451 : decode cL_law 451 = .ok (.iload_n 3, 1) := dk_29 (dk_at dksL_law_16 10 rfl rfl)
theorem dL_law_452 : decode cL_law 452 = .ok (.iconst 2, 1) := dk_5 (dk_at dksL_law_16 11 rfl rfl)
theorem dL_law_453 : decode cL_law 453 = .ok (.iadd, 1) := dk_96 (dk_at dksL_law_16 12 rfl rfl)
theorem dL_law_454 : decode cL_law 454 = .ok (.iaload, 1) := dk_46 (dk_at dksL_law_16 13 rfl rfl)
theorem dL_law_455 : decode cL_law 455 = .ok (.aload_n 0, 1) := dk_42 (dk_at dksL_law_16 14 rfl rfl)
theorem dL_law_456 : decode cL_law 456 = .ok (.iload_n 3, 1) := dk_29 (dk_at dksL_law_16 15 rfl rfl)
theorem dL_law_457 : decode cL_law 457 = .ok (.iconst 3, 1) := dk_6 (dk_at dksL_law_16 16 rfl rfl)
theorem dL_law_458 : decode cL_law 458 = .ok (.iadd, 1) := dk_96 (dk_at dksL_law_16 17 rfl rfl)
theorem dL_law_459 : decode cL_law 459 = .ok (.iaload, 1) := dk_46 (dk_at dksL_law_16 18 rfl rfl)
theorem dL_law_460 : decode cL_law 460 = .ok (.invokevirtual 57, 3) := dk_182 0 57 (dk_at dksL_law_16 19 rfl rfl)
theorem dL_law_463 : decode cL_law 463 = .ok (.if_icmp .eq 391, 3) := dk_159 1 135 (dk_at dksL_law_17 0 rfl rfl)
theorem dL_law_466 : decode cL_law 466 = .ok (.iconst 0, 1) := dk_3 (dk_at dksL_law_17 3 rfl rfl)
theorem dL_law_467 : decode cL_law 467 = .ok (.ireturn, 1) := dk_172 (dk_at dksL_law_17 4 rfl rfl)
theorem dL_law_468 : decode cL_law 468 = .ok (.aload_n 1, 1) := dk_43 (dk_at dksL_law_17 5 rfl rfl)
theorem dL_law_469 : decode cL_law 469 = .ok (.aload_n 0, 1) := dk_42 (dk_at dksL_law_17 6 rfl rfl)
theorem dL_law_470 : decode cL_law 470 = .ok (.iload_n 3, 1) := dk_29 (dk_at dksL_law_17 7 rfl rfl)
theorem dL_law_471 : decode cL_law 471 = .ok (.iconst 1, 1) := dk_4 (dk_at dksL_law_17 8 rfl rfl)
theorem dL_law_472 : decode cL_law 472 = .ok (.iadd, 1) := dk_96 (dk_at dksL_law_17 9 rfl rfl)
theorem dL_law_473 : decode cL_law 473 = .ok (.iaload, 1) := dk_46 (dk_at dksL_law_17 10 rfl rfl)
theorem dL_law_474 : decode cL_law 474 = .ok (.aload_n 0, 1) := dk_42 (dk_at dksL_law_17 11 rfl rfl)
theorem dL_law_475 : decode cL_law 475 = .ok (.iload_n 3, 1) := dk_29 (dk_at dksL_law_17 12 rfl rfl)
theorem dL_law_476 : decode cL_law 476 = .ok (.iconst 2, 1) := dk_5 (dk_at dksL_law_17 13 rfl rfl)
theorem dL_law_477 : decode cL_law 477 = .ok (.iadd, 1) := dk_96 (dk_at dksL_law_17 14 rfl rfl)
theorem dL_law_478 : decode cL_law 478 = .ok (.iaload, 1) := dk_46 (dk_at dksL_law_17 15 rfl rfl)
theorem dL_law_479 : decode cL_law 479 = .ok (.invokevirtual 58, 3) := dk_182 0 58 (dk_at dksL_law_17 16 rfl rfl)
theorem dL_law_482 : decode cL_law 482 = .ok (.aload_n 2, 1) := dk_44 (dk_at dksL_law_17 19 rfl rfl)
theorem dL_law_483 : decode cL_law 483 = .ok (.aload_n 0, 1) := dk_42 (dk_at dksL_law_17 20 rfl rfl)
theorem dL_law_484 : decode cL_law 484 = .ok (.iload_n 3, 1) := dk_29 (dk_at dksL_law_17 21 rfl rfl)
theorem dL_law_485 : decode cL_law 485 = .ok (.iconst 1, 1) := dk_4 (dk_at dksL_law_17 22 rfl rfl)
theorem dL_law_486 : decode cL_law 486 = .ok (.iadd, 1) := dk_96 (dk_at dksL_law_17 23 rfl rfl)
theorem dL_law_487 : decode cL_law 487 = .ok (.iaload, 1) := dk_46 (dk_at dksL_law_18 0 rfl rfl)
theorem dL_law_488 : decode cL_law 488 = .ok (.aload_n 0, 1) := dk_42 (dk_at dksL_law_18 1 rfl rfl)
theorem dL_law_489 : decode cL_law 489 = .ok (.iload_n 3, 1) := dk_29 (dk_at dksL_law_18 2 rfl rfl)
theorem dL_law_490 : decode cL_law 490 = .ok (.iconst 2, 1) := dk_5 (dk_at dksL_law_18 3 rfl rfl)
theorem dL_law_491 : decode cL_law 491 = .ok (.iadd, 1) := dk_96 (dk_at dksL_law_18 4 rfl rfl)
theorem dL_law_492 : decode cL_law 492 = .ok (.iaload, 1) := dk_46 (dk_at dksL_law_18 5 rfl rfl)
theorem dL_law_493 : decode cL_law 493 = .ok (.invokevirtual 61, 3) := dk_182 0 61 (dk_at dksL_law_18 6 rfl rfl)
theorem dL_law_496 : decode cL_law 496 = .ok (.if_icmp .eq 358, 3) := dk_159 1 102 (dk_at dksL_law_18 9 rfl rfl)
theorem dL_law_499 : decode cL_law 499 = .ok (.iconst 0, 1) := dk_3 (dk_at dksL_law_18 12 rfl rfl)
theorem dL_law_500 : decode cL_law 500 = .ok (.ireturn, 1) := dk_172 (dk_at dksL_law_18 13 rfl rfl)
theorem dL_law_501 : decode cL_law 501 = .ok (.aload_n 1, 1) := dk_43 (dk_at dksL_law_18 14 rfl rfl)
theorem dL_law_502 : decode cL_law 502 = .ok (.aload_n 0, 1) := dk_42 (dk_at dksL_law_18 15 rfl rfl)
theorem dL_law_503 : decode cL_law 503 = .ok (.iload_n 3, 1) := dk_29 (dk_at dksL_law_18 16 rfl rfl)
theorem dL_law_504 : decode cL_law 504 = .ok (.iconst 1, 1) := dk_4 (dk_at dksL_law_18 17 rfl rfl)
theorem dL_law_505 : decode cL_law 505 = .ok (.iadd, 1) := dk_96 (dk_at dksL_law_18 18 rfl rfl)
theorem dL_law_506 : decode cL_law 506 = .ok (.iaload, 1) := dk_46 (dk_at dksL_law_18 19 rfl rfl)
theorem dL_law_507 : decode cL_law 507 = .ok (.invokevirtual 62, 3) := dk_182 0 62 (dk_at dksL_law_18 20 rfl rfl)
theorem dL_law_510 : decode cL_law 510 = .ok (.aload_n 2, 1) := dk_44 (dk_at dksL_law_18 23 rfl rfl)
theorem dL_law_511 : decode cL_law 511 = .ok (.aload_n 0, 1) := dk_42 (dk_at dksL_law_19 0 rfl rfl)
theorem dL_law_512 : decode cL_law 512 = .ok (.iload_n 3, 1) := dk_29 (dk_at dksL_law_19 1 rfl rfl)
theorem dL_law_513 : decode cL_law 513 = .ok (.iconst 1, 1) := dk_4 (dk_at dksL_law_19 2 rfl rfl)
theorem dL_law_514 : decode cL_law 514 = .ok (.iadd, 1) := dk_96 (dk_at dksL_law_19 3 rfl rfl)
theorem dL_law_515 : decode cL_law 515 = .ok (.iaload, 1) := dk_46 (dk_at dksL_law_19 4 rfl rfl)
theorem dL_law_516 : decode cL_law 516 = .ok (.invokevirtual 66, 3) := dk_182 0 66 (dk_at dksL_law_19 5 rfl rfl)
theorem dL_law_519 : decode cL_law 519 = .ok (.if_icmp .eq 335, 3) := dk_159 1 79 (dk_at dksL_law_19 8 rfl rfl)
theorem dL_law_522 : decode cL_law 522 = .ok (.iconst 0, 1) := dk_3 (dk_at dksL_law_19 11 rfl rfl)
theorem dL_law_523 : decode cL_law 523 = .ok (.ireturn, 1) := dk_172 (dk_at dksL_law_19 12 rfl rfl)
theorem dL_law_524 : decode cL_law 524 = .ok (.aload_n 1, 1) := dk_43 (dk_at dksL_law_19 13 rfl rfl)
theorem dL_law_525 : decode cL_law 525 = .ok (.aload_n 0, 1) := dk_42 (dk_at dksL_law_19 14 rfl rfl)
theorem dL_law_526 : decode cL_law 526 = .ok (.iload_n 3, 1) := dk_29 (dk_at dksL_law_19 15 rfl rfl)
theorem dL_law_527 : decode cL_law 527 = .ok (.iconst 1, 1) := dk_4 (dk_at dksL_law_19 16 rfl rfl)
theorem dL_law_528 : decode cL_law 528 = .ok (.iadd, 1) := dk_96 (dk_at dksL_law_19 17 rfl rfl)
theorem dL_law_529 : decode cL_law 529 = .ok (.iaload, 1) := dk_46 (dk_at dksL_law_19 18 rfl rfl)
theorem dL_law_530 : decode cL_law 530 = .ok (.invokevirtual 67, 3) := dk_182 0 67 (dk_at dksL_law_19 19 rfl rfl)
theorem dL_law_533 : decode cL_law 533 = .ok (.aload_n 2, 1) := dk_44 (dk_at dksL_law_19 22 rfl rfl)
theorem dL_law_534 : decode cL_law 534 = .ok (.aload_n 0, 1) := dk_42 (dk_at dksL_law_19 23 rfl rfl)
theorem dL_law_535 : decode cL_law 535 = .ok (.iload_n 3, 1) := dk_29 (dk_at dksL_law_20 0 rfl rfl)
theorem dL_law_536 : decode cL_law 536 = .ok (.iconst 1, 1) := dk_4 (dk_at dksL_law_20 1 rfl rfl)
theorem dL_law_537 : decode cL_law 537 = .ok (.iadd, 1) := dk_96 (dk_at dksL_law_20 2 rfl rfl)
theorem dL_law_538 : decode cL_law 538 = .ok (.iaload, 1) := dk_46 (dk_at dksL_law_20 3 rfl rfl)
theorem dL_law_539 : decode cL_law 539 = .ok (.invokevirtual 70, 3) := dk_182 0 70 (dk_at dksL_law_20 4 rfl rfl)
theorem dL_law_542 : decode cL_law 542 = .ok (.if_icmp .eq 312, 3) := dk_159 1 56 (dk_at dksL_law_20 7 rfl rfl)
theorem dL_law_545 : decode cL_law 545 = .ok (.iconst 0, 1) := dk_3 (dk_at dksL_law_20 10 rfl rfl)
theorem dL_law_546 : decode cL_law 546 = .ok (.ireturn, 1) := dk_172 (dk_at dksL_law_20 11 rfl rfl)
theorem dL_law_547 : decode cL_law 547 = .ok (.aload_n 1, 1) := dk_43 (dk_at dksL_law_20 12 rfl rfl)
theorem dL_law_548 : decode cL_law 548 = .ok (.aload_n 0, 1) := dk_42 (dk_at dksL_law_20 13 rfl rfl)
theorem dL_law_549 : decode cL_law 549 = .ok (.iload_n 3, 1) := dk_29 (dk_at dksL_law_20 14 rfl rfl)
theorem dL_law_550 : decode cL_law 550 = .ok (.iconst 1, 1) := dk_4 (dk_at dksL_law_20 15 rfl rfl)
theorem dL_law_551 : decode cL_law 551 = .ok (.iadd, 1) := dk_96 (dk_at dksL_law_20 16 rfl rfl)
theorem dL_law_552 : decode cL_law 552 = .ok (.iaload, 1) := dk_46 (dk_at dksL_law_20 17 rfl rfl)
theorem dL_law_553 : decode cL_law 553 = .ok (.invokevirtual 71, 3) := dk_182 0 71 (dk_at dksL_law_20 18 rfl rfl)
theorem dL_law_556 : decode cL_law 556 = .ok (.aload_n 2, 1) := dk_44 (dk_at dksL_law_20 21 rfl rfl)
theorem dL_law_557 : decode cL_law 557 = .ok (.aload_n 0, 1) := dk_42 (dk_at dksL_law_20 22 rfl rfl)
theorem dL_law_558 : decode cL_law 558 = .ok (.iload_n 3, 1) := dk_29 (dk_at dksL_law_20 23 rfl rfl)
theorem dL_law_559 : decode cL_law 559 = .ok (.iconst 1, 1) := dk_4 (dk_at dksL_law_21 0 rfl rfl)
theorem dL_law_560 : decode cL_law 560 = .ok (.iadd, 1) := dk_96 (dk_at dksL_law_21 1 rfl rfl)
theorem dL_law_561 : decode cL_law 561 = .ok (.iaload, 1) := dk_46 (dk_at dksL_law_21 2 rfl rfl)
theorem dL_law_562 : decode cL_law 562 = .ok (.invokevirtual 74, 3) := dk_182 0 74 (dk_at dksL_law_21 3 rfl rfl)
theorem dL_law_565 : decode cL_law 565 = .ok (.if_icmp .eq 289, 3) := dk_159 1 33 (dk_at dksL_law_21 6 rfl rfl)
theorem dL_law_568 : decode cL_law 568 = .ok (.iconst 0, 1) := dk_3 (dk_at dksL_law_21 9 rfl rfl)
theorem dL_law_569 : decode cL_law 569 = .ok (.ireturn, 1) := dk_172 (dk_at dksL_law_21 10 rfl rfl)
theorem dL_law_570 : decode cL_law 570 = .ok (.aload_n 1, 1) := dk_43 (dk_at dksL_law_21 11 rfl rfl)
theorem dL_law_571 : decode cL_law 571 = .ok (.aload_n 0, 1) := dk_42 (dk_at dksL_law_21 12 rfl rfl)
theorem dL_law_572 : decode cL_law 572 = .ok (.iload_n 3, 1) := dk_29 (dk_at dksL_law_21 13 rfl rfl)
theorem dL_law_573 : decode cL_law 573 = .ok (.iconst 1, 1) := dk_4 (dk_at dksL_law_21 14 rfl rfl)
theorem dL_law_574 : decode cL_law 574 = .ok (.iadd, 1) := dk_96 (dk_at dksL_law_21 15 rfl rfl)
theorem dL_law_575 : decode cL_law 575 = .ok (.iaload, 1) := dk_46 (dk_at dksL_law_21 16 rfl rfl)
theorem dL_law_576 : decode cL_law 576 = .ok (.aload_n 0, 1) := dk_42 (dk_at dksL_law_21 17 rfl rfl)
theorem dL_law_577 : decode cL_law 577 = .ok (.iload_n 3, 1) := dk_29 (dk_at dksL_law_21 18 rfl rfl)
theorem dL_law_578 : decode cL_law 578 = .ok (.iconst 2, 1) := dk_5 (dk_at dksL_law_21 19 rfl rfl)
theorem dL_law_579 : decode cL_law 579 = .ok (.iadd, 1) := dk_96 (dk_at dksL_law_21 20 rfl rfl)
theorem dL_law_580 : decode cL_law 580 = .ok (.iaload, 1) := dk_46 (dk_at dksL_law_21 21 rfl rfl)
theorem dL_law_581 : decode cL_law 581 = .ok (.invokevirtual 75, 3) := dk_182 0 75 (dk_at dksL_law_22 0 rfl rfl)
theorem dL_law_584 : decode cL_law 584 = .ok (.aload_n 2, 1) := dk_44 (dk_at dksL_law_22 3 rfl rfl)
theorem dL_law_585 : decode cL_law 585 = .ok (.aload_n 0, 1) := dk_42 (dk_at dksL_law_22 4 rfl rfl)
theorem dL_law_586 : decode cL_law 586 = .ok (.iload_n 3, 1) := dk_29 (dk_at dksL_law_22 5 rfl rfl)
theorem dL_law_587 : decode cL_law 587 = .ok (.iconst 1, 1) := dk_4 (dk_at dksL_law_22 6 rfl rfl)
theorem dL_law_588 : decode cL_law 588 = .ok (.iadd, 1) := dk_96 (dk_at dksL_law_22 7 rfl rfl)
theorem dL_law_589 : decode cL_law 589 = .ok (.iaload, 1) := dk_46 (dk_at dksL_law_22 8 rfl rfl)
theorem dL_law_590 : decode cL_law 590 = .ok (.aload_n 0, 1) := dk_42 (dk_at dksL_law_22 9 rfl rfl)
theorem dL_law_591 : decode cL_law 591 = .ok (.iload_n 3, 1) := dk_29 (dk_at dksL_law_22 10 rfl rfl)
theorem dL_law_592 : decode cL_law 592 = .ok (.iconst 2, 1) := dk_5 (dk_at dksL_law_22 11 rfl rfl)
theorem dL_law_593 : decode cL_law 593 = .ok (.iadd, 1) := dk_96 (dk_at dksL_law_22 12 rfl rfl)
theorem dL_law_594 : decode cL_law 594 = .ok (.iaload, 1) := dk_46 (dk_at dksL_law_22 13 rfl rfl)
theorem dL_law_595 : decode cL_law 595 = .ok (.invokevirtual 78, 3) := dk_182 0 78 (dk_at dksL_law_22 14 rfl rfl)
theorem dL_law_598 : decode cL_law 598 = .ok (.if_icmp .eq 256, 3) := dk_159 1 0 (dk_at dksL_law_22 17 rfl rfl)
theorem dL_law_601 : decode cL_law 601 = .ok (.iconst 0, 1) := dk_3 (dk_at dksL_law_22 20 rfl rfl)
theorem dL_law_602 : decode cL_law 602 = .ok (.ireturn, 1) := dk_172 (dk_at dksL_law_22 21 rfl rfl)
theorem dL_law_603 : decode cL_law 603 = .ok (.aload_n 1, 1) := dk_43 (dk_at dksL_law_22 22 rfl rfl)
theorem dL_law_604 : decode cL_law 604 = .ok (.aload_n 0, 1) := dk_42 (dk_at dksL_law_22 23 rfl rfl)
theorem dL_law_605 : decode cL_law 605 = .ok (.iload_n 3, 1) := dk_29 (dk_at dksL_law_23 0 rfl rfl)
theorem dL_law_606 : decode cL_law 606 = .ok (.iconst 1, 1) := dk_4 (dk_at dksL_law_23 1 rfl rfl)
theorem dL_law_607 : decode cL_law 607 = .ok (.iadd, 1) := dk_96 (dk_at dksL_law_23 2 rfl rfl)
theorem dL_law_608 : decode cL_law 608 = .ok (.iaload, 1) := dk_46 (dk_at dksL_law_23 3 rfl rfl)
theorem dL_law_609 : decode cL_law 609 = .ok (.aload_n 0, 1) := dk_42 (dk_at dksL_law_23 4 rfl rfl)
theorem dL_law_610 : decode cL_law 610 = .ok (.iload_n 3, 1) := dk_29 (dk_at dksL_law_23 5 rfl rfl)
theorem dL_law_611 : decode cL_law 611 = .ok (.iconst 2, 1) := dk_5 (dk_at dksL_law_23 6 rfl rfl)
theorem dL_law_612 : decode cL_law 612 = .ok (.iadd, 1) := dk_96 (dk_at dksL_law_23 7 rfl rfl)
theorem dL_law_613 : decode cL_law 613 = .ok (.iaload, 1) := dk_46 (dk_at dksL_law_23 8 rfl rfl)
theorem dL_law_614 : decode cL_law 614 = .ok (.invokevirtual 79, 3) := dk_182 0 79 (dk_at dksL_law_23 9 rfl rfl)
theorem dL_law_617 : decode cL_law 617 = .ok (.aload_n 2, 1) := dk_44 (dk_at dksL_law_23 12 rfl rfl)
theorem dL_law_618 : decode cL_law 618 = .ok (.aload_n 0, 1) := dk_42 (dk_at dksL_law_23 13 rfl rfl)
theorem dL_law_619 : decode cL_law 619 = .ok (.iload_n 3, 1) := dk_29 (dk_at dksL_law_23 14 rfl rfl)
theorem dL_law_620 : decode cL_law 620 = .ok (.iconst 1, 1) := dk_4 (dk_at dksL_law_23 15 rfl rfl)
theorem dL_law_621 : decode cL_law 621 = .ok (.iadd, 1) := dk_96 (dk_at dksL_law_23 16 rfl rfl)
theorem dL_law_622 : decode cL_law 622 = .ok (.iaload, 1) := dk_46 (dk_at dksL_law_23 17 rfl rfl)
theorem dL_law_623 : decode cL_law 623 = .ok (.aload_n 0, 1) := dk_42 (dk_at dksL_law_23 18 rfl rfl)
theorem dL_law_624 : decode cL_law 624 = .ok (.iload_n 3, 1) := dk_29 (dk_at dksL_law_23 19 rfl rfl)
theorem dL_law_625 : decode cL_law 625 = .ok (.iconst 2, 1) := dk_5 (dk_at dksL_law_23 20 rfl rfl)
theorem dL_law_626 : decode cL_law 626 = .ok (.iadd, 1) := dk_96 (dk_at dksL_law_23 21 rfl rfl)
theorem dL_law_627 : decode cL_law 627 = .ok (.iaload, 1) := dk_46 (dk_at dksL_law_23 22 rfl rfl)
theorem dL_law_628 : decode cL_law 628 = .ok (.invokevirtual 82, 3) := dk_182 0 82 (dk_at dksL_law_24 0 rfl rfl)
theorem dL_law_631 : decode cL_law 631 = .ok (.if_icmp .eq 223, 3) := dk_159 0 223 (dk_at dksL_law_24 3 rfl rfl)
theorem dL_law_634 : decode cL_law 634 = .ok (.iconst 0, 1) := dk_3 (dk_at dksL_law_24 6 rfl rfl)
theorem dL_law_635 : decode cL_law 635 = .ok (.ireturn, 1) := dk_172 (dk_at dksL_law_24 7 rfl rfl)
theorem dL_law_636 : decode cL_law 636 = .ok (.aload_n 1, 1) := dk_43 (dk_at dksL_law_24 8 rfl rfl)
theorem dL_law_637 : decode cL_law 637 = .ok (.aload_n 0, 1) := dk_42 (dk_at dksL_law_24 9 rfl rfl)
theorem dL_law_638 : decode cL_law 638 = .ok (.iload_n 3, 1) := dk_29 (dk_at dksL_law_24 10 rfl rfl)
theorem dL_law_639 : decode cL_law 639 = .ok (.iconst 1, 1) := dk_4 (dk_at dksL_law_24 11 rfl rfl)
theorem dL_law_640 : decode cL_law 640 = .ok (.iadd, 1) := dk_96 (dk_at dksL_law_24 12 rfl rfl)
theorem dL_law_641 : decode cL_law 641 = .ok (.iaload, 1) := dk_46 (dk_at dksL_law_24 13 rfl rfl)
theorem dL_law_642 : decode cL_law 642 = .ok (.aload_n 0, 1) := dk_42 (dk_at dksL_law_24 14 rfl rfl)
theorem dL_law_643 : decode cL_law 643 = .ok (.iload_n 3, 1) := dk_29 (dk_at dksL_law_24 15 rfl rfl)
theorem dL_law_644 : decode cL_law 644 = .ok (.iconst 2, 1) := dk_5 (dk_at dksL_law_24 16 rfl rfl)
theorem dL_law_645 : decode cL_law 645 = .ok (.iadd, 1) := dk_96 (dk_at dksL_law_24 17 rfl rfl)
theorem dL_law_646 : decode cL_law 646 = .ok (.iaload, 1) := dk_46 (dk_at dksL_law_24 18 rfl rfl)
theorem dL_law_647 : decode cL_law 647 = .ok (.aload_n 0, 1) := dk_42 (dk_at dksL_law_24 19 rfl rfl)
theorem dL_law_648 : decode cL_law 648 = .ok (.iload_n 3, 1) := dk_29 (dk_at dksL_law_24 20 rfl rfl)
theorem dL_law_649 : decode cL_law 649 = .ok (.iconst 3, 1) := dk_6 (dk_at dksL_law_24 21 rfl rfl)
theorem dL_law_650 : decode cL_law 650 = .ok (.iadd, 1) := dk_96 (dk_at dksL_law_24 22 rfl rfl)
theorem dL_law_651 : decode cL_law 651 = .ok (.iaload, 1) := dk_46 (dk_at dksL_law_24 23 rfl rfl)
theorem dL_law_652 : decode cL_law 652 = .ok (.aload_n 0, 1) := dk_42 (dk_at dksL_law_25 0 rfl rfl)
theorem dL_law_653 : decode cL_law 653 = .ok (.iload_n 3, 1) := dk_29 (dk_at dksL_law_25 1 rfl rfl)
theorem dL_law_654 : decode cL_law 654 = .ok (.iconst 4, 1) := dk_7 (dk_at dksL_law_25 2 rfl rfl)
theorem dL_law_655 : decode cL_law 655 = .ok (.iadd, 1) := dk_96 (dk_at dksL_law_25 3 rfl rfl)
theorem dL_law_656 : decode cL_law 656 = .ok (.iaload, 1) := dk_46 (dk_at dksL_law_25 4 rfl rfl)
theorem dL_law_657 : decode cL_law 657 = .ok (.invokevirtual 83, 3) := dk_182 0 83 (dk_at dksL_law_25 5 rfl rfl)
theorem dL_law_660 : decode cL_law 660 = .ok (.aload_n 2, 1) := dk_44 (dk_at dksL_law_25 8 rfl rfl)
theorem dL_law_661 : decode cL_law 661 = .ok (.aload_n 0, 1) := dk_42 (dk_at dksL_law_25 9 rfl rfl)
theorem dL_law_662 : decode cL_law 662 = .ok (.iload_n 3, 1) := dk_29 (dk_at dksL_law_25 10 rfl rfl)
theorem dL_law_663 : decode cL_law 663 = .ok (.iconst 1, 1) := dk_4 (dk_at dksL_law_25 11 rfl rfl)
theorem dL_law_664 : decode cL_law 664 = .ok (.iadd, 1) := dk_96 (dk_at dksL_law_25 12 rfl rfl)
theorem dL_law_665 : decode cL_law 665 = .ok (.iaload, 1) := dk_46 (dk_at dksL_law_25 13 rfl rfl)
theorem dL_law_666 : decode cL_law 666 = .ok (.aload_n 0, 1) := dk_42 (dk_at dksL_law_25 14 rfl rfl)
theorem dL_law_667 : decode cL_law 667 = .ok (.iload_n 3, 1) := dk_29 (dk_at dksL_law_25 15 rfl rfl)
theorem dL_law_668 : decode cL_law 668 = .ok (.iconst 2, 1) := dk_5 (dk_at dksL_law_25 16 rfl rfl)
theorem dL_law_669 : decode cL_law 669 = .ok (.iadd, 1) := dk_96 (dk_at dksL_law_25 17 rfl rfl)
theorem dL_law_670 : decode cL_law 670 = .ok (.iaload, 1) := dk_46 (dk_at dksL_law_25 18 rfl rfl)
theorem dL_law_671 : decode cL_law 671 = .ok (.aload_n 0, 1) := dk_42 (dk_at dksL_law_25 19 rfl rfl)
theorem dL_law_672 : decode cL_law 672 = .ok (.iload_n 3, 1) := dk_29 (dk_at dksL_law_25 20 rfl rfl)
theorem dL_law_673 : decode cL_law 673 = .ok (.iconst 3, 1) := dk_6 (dk_at dksL_law_25 21 rfl rfl)
theorem dL_law_674 : decode cL_law 674 = .ok (.iadd, 1) := dk_96 (dk_at dksL_law_25 22 rfl rfl)
theorem dL_law_675 : decode cL_law 675 = .ok (.iaload, 1) := dk_46 (dk_at dksL_law_25 23 rfl rfl)
theorem dL_law_676 : decode cL_law 676 = .ok (.aload_n 0, 1) := dk_42 (dk_at dksL_law_26 0 rfl rfl)
theorem dL_law_677 : decode cL_law 677 = .ok (.iload_n 3, 1) := dk_29 (dk_at dksL_law_26 1 rfl rfl)
theorem dL_law_678 : decode cL_law 678 = .ok (.iconst 4, 1) := dk_7 (dk_at dksL_law_26 2 rfl rfl)
theorem dL_law_679 : decode cL_law 679 = .ok (.iadd, 1) := dk_96 (dk_at dksL_law_26 3 rfl rfl)
theorem dL_law_680 : decode cL_law 680 = .ok (.iaload, 1) := dk_46 (dk_at dksL_law_26 4 rfl rfl)
theorem dL_law_681 : decode cL_law 681 = .ok (.invokevirtual 87, 3) := dk_182 0 87 (dk_at dksL_law_26 5 rfl rfl)
theorem dL_law_684 : decode cL_law 684 = .ok (.if_icmp .eq 170, 3) := dk_159 0 170 (dk_at dksL_law_26 8 rfl rfl)
theorem dL_law_687 : decode cL_law 687 = .ok (.iconst 0, 1) := dk_3 (dk_at dksL_law_26 11 rfl rfl)
theorem dL_law_688 : decode cL_law 688 = .ok (.ireturn, 1) := dk_172 (dk_at dksL_law_26 12 rfl rfl)
theorem dL_law_689 : decode cL_law 689 = .ok (.aload_n 1, 1) := dk_43 (dk_at dksL_law_26 13 rfl rfl)
theorem dL_law_690 : decode cL_law 690 = .ok (.aload_n 0, 1) := dk_42 (dk_at dksL_law_26 14 rfl rfl)
theorem dL_law_691 : decode cL_law 691 = .ok (.iload_n 3, 1) := dk_29 (dk_at dksL_law_26 15 rfl rfl)
theorem dL_law_692 : decode cL_law 692 = .ok (.iconst 1, 1) := dk_4 (dk_at dksL_law_26 16 rfl rfl)
theorem dL_law_693 : decode cL_law 693 = .ok (.iadd, 1) := dk_96 (dk_at dksL_law_26 17 rfl rfl)
theorem dL_law_694 : decode cL_law 694 = .ok (.iaload, 1) := dk_46 (dk_at dksL_law_26 18 rfl rfl)
theorem dL_law_695 : decode cL_law 695 = .ok (.aload_n 0, 1) := dk_42 (dk_at dksL_law_26 19 rfl rfl)
theorem dL_law_696 : decode cL_law 696 = .ok (.iload_n 3, 1) := dk_29 (dk_at dksL_law_26 20 rfl rfl)
theorem dL_law_697 : decode cL_law 697 = .ok (.iconst 2, 1) := dk_5 (dk_at dksL_law_26 21 rfl rfl)
theorem dL_law_698 : decode cL_law 698 = .ok (.iadd, 1) := dk_96 (dk_at dksL_law_26 22 rfl rfl)
theorem dL_law_699 : decode cL_law 699 = .ok (.iaload, 1) := dk_46 (dk_at dksL_law_26 23 rfl rfl)
theorem dL_law_700 : decode cL_law 700 = .ok (.invokevirtual 88, 3) := dk_182 0 88 (dk_at dksL_law_27 0 rfl rfl)
theorem dL_law_703 : decode cL_law 703 = .ok (.aload_n 2, 1) := dk_44 (dk_at dksL_law_27 3 rfl rfl)
theorem dL_law_704 : decode cL_law 704 = .ok (.aload_n 0, 1) := dk_42 (dk_at dksL_law_27 4 rfl rfl)
theorem dL_law_705 : decode cL_law 705 = .ok (.iload_n 3, 1) := dk_29 (dk_at dksL_law_27 5 rfl rfl)
theorem dL_law_706 : decode cL_law 706 = .ok (.iconst 1, 1) := dk_4 (dk_at dksL_law_27 6 rfl rfl)
theorem dL_law_707 : decode cL_law 707 = .ok (.iadd, 1) := dk_96 (dk_at dksL_law_27 7 rfl rfl)
theorem dL_law_708 : decode cL_law 708 = .ok (.iaload, 1) := dk_46 (dk_at dksL_law_27 8 rfl rfl)
theorem dL_law_709 : decode cL_law 709 = .ok (.aload_n 0, 1) := dk_42 (dk_at dksL_law_27 9 rfl rfl)
theorem dL_law_710 : decode cL_law 710 = .ok (.iload_n 3, 1) := dk_29 (dk_at dksL_law_27 10 rfl rfl)
theorem dL_law_711 : decode cL_law 711 = .ok (.iconst 2, 1) := dk_5 (dk_at dksL_law_27 11 rfl rfl)
theorem dL_law_712 : decode cL_law 712 = .ok (.iadd, 1) := dk_96 (dk_at dksL_law_27 12 rfl rfl)
theorem dL_law_713 : decode cL_law 713 = .ok (.iaload, 1) := dk_46 (dk_at dksL_law_27 13 rfl rfl)
theorem dL_law_714 : decode cL_law 714 = .ok (.invokevirtual 91, 3) := dk_182 0 91 (dk_at dksL_law_27 14 rfl rfl)
theorem dL_law_717 : decode cL_law 717 = .ok (.if_icmp .eq 137, 3) := dk_159 0 137 (dk_at dksL_law_27 17 rfl rfl)
theorem dL_law_720 : decode cL_law 720 = .ok (.iconst 0, 1) := dk_3 (dk_at dksL_law_27 20 rfl rfl)
theorem dL_law_721 : decode cL_law 721 = .ok (.ireturn, 1) := dk_172 (dk_at dksL_law_27 21 rfl rfl)
theorem dL_law_722 : decode cL_law 722 = .ok (.aload_n 1, 1) := dk_43 (dk_at dksL_law_27 22 rfl rfl)
theorem dL_law_723 : decode cL_law 723 = .ok (.aload_n 0, 1) := dk_42 (dk_at dksL_law_27 23 rfl rfl)
theorem dL_law_724 : decode cL_law 724 = .ok (.iload_n 3, 1) := dk_29 (dk_at dksL_law_28 0 rfl rfl)
theorem dL_law_725 : decode cL_law 725 = .ok (.iconst 1, 1) := dk_4 (dk_at dksL_law_28 1 rfl rfl)
theorem dL_law_726 : decode cL_law 726 = .ok (.iadd, 1) := dk_96 (dk_at dksL_law_28 2 rfl rfl)
theorem dL_law_727 : decode cL_law 727 = .ok (.iaload, 1) := dk_46 (dk_at dksL_law_28 3 rfl rfl)
theorem dL_law_728 : decode cL_law 728 = .ok (.aload_n 0, 1) := dk_42 (dk_at dksL_law_28 4 rfl rfl)
theorem dL_law_729 : decode cL_law 729 = .ok (.iload_n 3, 1) := dk_29 (dk_at dksL_law_28 5 rfl rfl)
theorem dL_law_730 : decode cL_law 730 = .ok (.iconst 2, 1) := dk_5 (dk_at dksL_law_28 6 rfl rfl)
theorem dL_law_731 : decode cL_law 731 = .ok (.iadd, 1) := dk_96 (dk_at dksL_law_28 7 rfl rfl)
theorem dL_law_732 : decode cL_law 732 = .ok (.iaload, 1) := dk_46 (dk_at dksL_law_28 8 rfl rfl)
theorem dL_law_733 : decode cL_law 733 = .ok (.aload_n 0, 1) := dk_42 (dk_at dksL_law_28 9 rfl rfl)
theorem dL_law_734 : decode cL_law 734 = .ok (.iload_n 3, 1) := dk_29 (dk_at dksL_law_28 10 rfl rfl)
theorem dL_law_735 : decode cL_law 735 = .ok (.iconst 3, 1) := dk_6 (dk_at dksL_law_28 11 rfl rfl)
theorem dL_law_736 : decode cL_law 736 = .ok (.iadd, 1) := dk_96 (dk_at dksL_law_28 12 rfl rfl)
theorem dL_law_737 : decode cL_law 737 = .ok (.iaload, 1) := dk_46 (dk_at dksL_law_28 13 rfl rfl)
theorem dL_law_738 : decode cL_law 738 = .ok (.invokevirtual 92, 3) := dk_182 0 92 (dk_at dksL_law_28 14 rfl rfl)
theorem dL_law_741 : decode cL_law 741 = .ok (.aload_n 2, 1) := dk_44 (dk_at dksL_law_28 17 rfl rfl)
theorem dL_law_742 : decode cL_law 742 = .ok (.aload_n 0, 1) := dk_42 (dk_at dksL_law_28 18 rfl rfl)
theorem dL_law_743 : decode cL_law 743 = .ok (.iload_n 3, 1) := dk_29 (dk_at dksL_law_28 19 rfl rfl)
theorem dL_law_744 : decode cL_law 744 = .ok (.iconst 1, 1) := dk_4 (dk_at dksL_law_28 20 rfl rfl)
theorem dL_law_745 : decode cL_law 745 = .ok (.iadd, 1) := dk_96 (dk_at dksL_law_28 21 rfl rfl)
theorem dL_law_746 : decode cL_law 746 = .ok (.iaload, 1) := dk_46 (dk_at dksL_law_28 22 rfl rfl)
theorem dL_law_747 : decode cL_law 747 = .ok (.aload_n 0, 1) := dk_42 (dk_at dksL_law_28 23 rfl rfl)
theorem dL_law_748 : decode cL_law 748 = .ok (.iload_n 3, 1) := dk_29 (dk_at dksL_law_29 0 rfl rfl)
theorem dL_law_749 : decode cL_law 749 = .ok (.iconst 2, 1) := dk_5 (dk_at dksL_law_29 1 rfl rfl)
theorem dL_law_750 : decode cL_law 750 = .ok (.iadd, 1) := dk_96 (dk_at dksL_law_29 2 rfl rfl)
theorem dL_law_751 : decode cL_law 751 = .ok (.iaload, 1) := dk_46 (dk_at dksL_law_29 3 rfl rfl)
theorem dL_law_752 : decode cL_law 752 = .ok (.aload_n 0, 1) := dk_42 (dk_at dksL_law_29 4 rfl rfl)
theorem dL_law_753 : decode cL_law 753 = .ok (.iload_n 3, 1) := dk_29 (dk_at dksL_law_29 5 rfl rfl)
theorem dL_law_754 : decode cL_law 754 = .ok (.iconst 3, 1) := dk_6 (dk_at dksL_law_29 6 rfl rfl)
theorem dL_law_755 : decode cL_law 755 = .ok (.iadd, 1) := dk_96 (dk_at dksL_law_29 7 rfl rfl)
theorem dL_law_756 : decode cL_law 756 = .ok (.iaload, 1) := dk_46 (dk_at dksL_law_29 8 rfl rfl)
theorem dL_law_757 : decode cL_law 757 = .ok (.invokevirtual 95, 3) := dk_182 0 95 (dk_at dksL_law_29 9 rfl rfl)
theorem dL_law_760 : decode cL_law 760 = .ok (.if_icmp .eq 94, 3) := dk_159 0 94 (dk_at dksL_law_29 12 rfl rfl)
theorem dL_law_763 : decode cL_law 763 = .ok (.iconst 0, 1) := dk_3 (dk_at dksL_law_29 15 rfl rfl)
theorem dL_law_764 : decode cL_law 764 = .ok (.ireturn, 1) := dk_172 (dk_at dksL_law_29 16 rfl rfl)
theorem dL_law_765 : decode cL_law 765 = .ok (.aload_n 1, 1) := dk_43 (dk_at dksL_law_29 17 rfl rfl)
theorem dL_law_766 : decode cL_law 766 = .ok (.aload_n 0, 1) := dk_42 (dk_at dksL_law_29 18 rfl rfl)
theorem dL_law_767 : decode cL_law 767 = .ok (.iload_n 3, 1) := dk_29 (dk_at dksL_law_29 19 rfl rfl)
theorem dL_law_768 : decode cL_law 768 = .ok (.iconst 1, 1) := dk_4 (dk_at dksL_law_29 20 rfl rfl)
theorem dL_law_769 : decode cL_law 769 = .ok (.iadd, 1) := dk_96 (dk_at dksL_law_29 21 rfl rfl)
theorem dL_law_770 : decode cL_law 770 = .ok (.iaload, 1) := dk_46 (dk_at dksL_law_29 22 rfl rfl)
theorem dL_law_771 : decode cL_law 771 = .ok (.aload_n 0, 1) := dk_42 (dk_at dksL_law_29 23 rfl rfl)
theorem dL_law_772 : decode cL_law 772 = .ok (.iload_n 3, 1) := dk_29 (dk_at dksL_law_30 0 rfl rfl)
theorem dL_law_773 : decode cL_law 773 = .ok (.iconst 2, 1) := dk_5 (dk_at dksL_law_30 1 rfl rfl)
theorem dL_law_774 : decode cL_law 774 = .ok (.iadd, 1) := dk_96 (dk_at dksL_law_30 2 rfl rfl)
theorem dL_law_775 : decode cL_law 775 = .ok (.iaload, 1) := dk_46 (dk_at dksL_law_30 3 rfl rfl)
theorem dL_law_776 : decode cL_law 776 = .ok (.invokevirtual 96, 3) := dk_182 0 96 (dk_at dksL_law_30 4 rfl rfl)
theorem dL_law_779 : decode cL_law 779 = .ok (.aload_n 2, 1) := dk_44 (dk_at dksL_law_30 7 rfl rfl)
theorem dL_law_780 : decode cL_law 780 = .ok (.aload_n 0, 1) := dk_42 (dk_at dksL_law_30 8 rfl rfl)
theorem dL_law_781 : decode cL_law 781 = .ok (.iload_n 3, 1) := dk_29 (dk_at dksL_law_30 9 rfl rfl)
theorem dL_law_782 : decode cL_law 782 = .ok (.iconst 1, 1) := dk_4 (dk_at dksL_law_30 10 rfl rfl)
theorem dL_law_783 : decode cL_law 783 = .ok (.iadd, 1) := dk_96 (dk_at dksL_law_30 11 rfl rfl)
theorem dL_law_784 : decode cL_law 784 = .ok (.iaload, 1) := dk_46 (dk_at dksL_law_30 12 rfl rfl)
theorem dL_law_785 : decode cL_law 785 = .ok (.aload_n 0, 1) := dk_42 (dk_at dksL_law_30 13 rfl rfl)
theorem dL_law_786 : decode cL_law 786 = .ok (.iload_n 3, 1) := dk_29 (dk_at dksL_law_30 14 rfl rfl)
theorem dL_law_787 : decode cL_law 787 = .ok (.iconst 2, 1) := dk_5 (dk_at dksL_law_30 15 rfl rfl)
theorem dL_law_788 : decode cL_law 788 = .ok (.iadd, 1) := dk_96 (dk_at dksL_law_30 16 rfl rfl)
theorem dL_law_789 : decode cL_law 789 = .ok (.iaload, 1) := dk_46 (dk_at dksL_law_30 17 rfl rfl)
theorem dL_law_790 : decode cL_law 790 = .ok (.invokevirtual 99, 3) := dk_182 0 99 (dk_at dksL_law_30 18 rfl rfl)
theorem dL_law_793 : decode cL_law 793 = .ok (.if_icmp .eq 61, 3) := dk_159 0 61 (dk_at dksL_law_30 21 rfl rfl)
theorem dL_law_796 : decode cL_law 796 = .ok (.iconst 0, 1) := dk_3 (dk_at dksL_law_31 0 rfl rfl)
theorem dL_law_797 : decode cL_law 797 = .ok (.ireturn, 1) := dk_172 (dk_at dksL_law_31 1 rfl rfl)
theorem dL_law_798 : decode cL_law 798 = .ok (.aload_n 1, 1) := dk_43 (dk_at dksL_law_31 2 rfl rfl)
theorem dL_law_799 : decode cL_law 799 = .ok (.aload_n 0, 1) := dk_42 (dk_at dksL_law_31 3 rfl rfl)
theorem dL_law_800 : decode cL_law 800 = .ok (.iload_n 3, 1) := dk_29 (dk_at dksL_law_31 4 rfl rfl)
theorem dL_law_801 : decode cL_law 801 = .ok (.iconst 1, 1) := dk_4 (dk_at dksL_law_31 5 rfl rfl)
theorem dL_law_802 : decode cL_law 802 = .ok (.iadd, 1) := dk_96 (dk_at dksL_law_31 6 rfl rfl)
theorem dL_law_803 : decode cL_law 803 = .ok (.iaload, 1) := dk_46 (dk_at dksL_law_31 7 rfl rfl)
theorem dL_law_804 : decode cL_law 804 = .ok (.aload_n 0, 1) := dk_42 (dk_at dksL_law_31 8 rfl rfl)
theorem dL_law_805 : decode cL_law 805 = .ok (.iload_n 3, 1) := dk_29 (dk_at dksL_law_31 9 rfl rfl)
theorem dL_law_806 : decode cL_law 806 = .ok (.iconst 2, 1) := dk_5 (dk_at dksL_law_31 10 rfl rfl)
theorem dL_law_807 : decode cL_law 807 = .ok (.iadd, 1) := dk_96 (dk_at dksL_law_31 11 rfl rfl)
theorem dL_law_808 : decode cL_law 808 = .ok (.iaload, 1) := dk_46 (dk_at dksL_law_31 12 rfl rfl)
theorem dL_law_809 : decode cL_law 809 = .ok (.invokevirtual 100, 3) := dk_182 0 100 (dk_at dksL_law_31 13 rfl rfl)
theorem dL_law_812 : decode cL_law 812 = .ok (.aload_n 2, 1) := dk_44 (dk_at dksL_law_31 16 rfl rfl)
theorem dL_law_813 : decode cL_law 813 = .ok (.aload_n 0, 1) := dk_42 (dk_at dksL_law_31 17 rfl rfl)
theorem dL_law_814 : decode cL_law 814 = .ok (.iload_n 3, 1) := dk_29 (dk_at dksL_law_31 18 rfl rfl)
theorem dL_law_815 : decode cL_law 815 = .ok (.iconst 1, 1) := dk_4 (dk_at dksL_law_31 19 rfl rfl)
theorem dL_law_816 : decode cL_law 816 = .ok (.iadd, 1) := dk_96 (dk_at dksL_law_31 20 rfl rfl)
theorem dL_law_817 : decode cL_law 817 = .ok (.iaload, 1) := dk_46 (dk_at dksL_law_31 21 rfl rfl)
theorem dL_law_818 : decode cL_law 818 = .ok (.aload_n 0, 1) := dk_42 (dk_at dksL_law_31 22 rfl rfl)
theorem dL_law_819 : decode cL_law 819 = .ok (.iload_n 3, 1) := dk_29 (dk_at dksL_law_31 23 rfl rfl)
theorem dL_law_820 : decode cL_law 820 = .ok (.iconst 2, 1) := dk_5 (dk_at dksL_law_32 0 rfl rfl)
theorem dL_law_821 : decode cL_law 821 = .ok (.iadd, 1) := dk_96 (dk_at dksL_law_32 1 rfl rfl)
theorem dL_law_822 : decode cL_law 822 = .ok (.iaload, 1) := dk_46 (dk_at dksL_law_32 2 rfl rfl)
theorem dL_law_823 : decode cL_law 823 = .ok (.invokevirtual 103, 3) := dk_182 0 103 (dk_at dksL_law_32 3 rfl rfl)
theorem dL_law_826 : decode cL_law 826 = .ok (.if_icmp .eq 28, 3) := dk_159 0 28 (dk_at dksL_law_32 6 rfl rfl)
theorem dL_law_829 : decode cL_law 829 = .ok (.iconst 0, 1) := dk_3 (dk_at dksL_law_32 9 rfl rfl)
theorem dL_law_830 : decode cL_law 830 = .ok (.ireturn, 1) := dk_172 (dk_at dksL_law_32 10 rfl rfl)
theorem dL_law_831 : decode cL_law 831 = .ok (.aload_n 1, 1) := dk_43 (dk_at dksL_law_32 11 rfl rfl)
theorem dL_law_832 : decode cL_law 832 = .ok (.aload_n 0, 1) := dk_42 (dk_at dksL_law_32 12 rfl rfl)
theorem dL_law_833 : decode cL_law 833 = .ok (.iload_n 3, 1) := dk_29 (dk_at dksL_law_32 13 rfl rfl)
theorem dL_law_834 : decode cL_law 834 = .ok (.iconst 1, 1) := dk_4 (dk_at dksL_law_32 14 rfl rfl)
theorem dL_law_835 : decode cL_law 835 = .ok (.iadd, 1) := dk_96 (dk_at dksL_law_32 15 rfl rfl)
theorem dL_law_836 : decode cL_law 836 = .ok (.iaload, 1) := dk_46 (dk_at dksL_law_32 16 rfl rfl)
theorem dL_law_837 : decode cL_law 837 = .ok (.invokevirtual 104, 3) := dk_182 0 104 (dk_at dksL_law_32 17 rfl rfl)
theorem dL_law_840 : decode cL_law 840 = .ok (.aload_n 2, 1) := dk_44 (dk_at dksL_law_32 20 rfl rfl)
theorem dL_law_841 : decode cL_law 841 = .ok (.aload_n 0, 1) := dk_42 (dk_at dksL_law_32 21 rfl rfl)
theorem dL_law_842 : decode cL_law 842 = .ok (.iload_n 3, 1) := dk_29 (dk_at dksL_law_32 22 rfl rfl)
theorem dL_law_843 : decode cL_law 843 = .ok (.iconst 1, 1) := dk_4 (dk_at dksL_law_32 23 rfl rfl)
theorem dL_law_844 : decode cL_law 844 = .ok (.iadd, 1) := dk_96 (dk_at dksL_law_33 0 rfl rfl)
theorem dL_law_845 : decode cL_law 845 = .ok (.iaload, 1) := dk_46 (dk_at dksL_law_33 1 rfl rfl)
theorem dL_law_846 : decode cL_law 846 = .ok (.invokevirtual 107, 3) := dk_182 0 107 (dk_at dksL_law_33 2 rfl rfl)
theorem dL_law_849 : decode cL_law 849 = .ok (.if_icmp .eq 5, 3) := dk_159 0 5 (dk_at dksL_law_33 5 rfl rfl)
theorem dL_law_852 : decode cL_law 852 = .ok (.iconst 0, 1) := dk_3 (dk_at dksL_law_33 8 rfl rfl)
theorem dL_law_853 : decode cL_law 853 = .ok (.ireturn, 1) := dk_172 (dk_at dksL_law_33 9 rfl rfl)
theorem dL_law_854 : decode cL_law 854 = .ok (.iinc 3 7, 3) := dk_132 3 7 (dk_at dksL_law_33 10 rfl rfl)
theorem dL_law_857 : decode cL_law 857 = .ok (.goto (-839), 3) := dk_167 252 185 (dk_at dksL_law_33 13 rfl rfl)
theorem dL_law_860 : decode cL_law 860 = .ok (.iconst 1, 1) := dk_4 (dk_at dksL_law_33 16 rfl rfl)
theorem dL_law_861 : decode cL_law 861 = .ok (.ireturn, 1) := dk_172 (dk_at dksL_law_33 17 rfl rfl)
