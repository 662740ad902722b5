/-! LAMBDAS: the made classes' one method forwards to the component's static method -/
def zLcode : ByteArray := ⟨#[0x2b, 0x2c, 0x1d, 0x15, 0x04, 0xb8, 0x00, 0x11, 0xb1]⟩
theorem zL0 : decode zLcode 0 = .ok (.aload_n 1, 1) := by decide +kernel
theorem zL1 : decode zLcode 1 = .ok (.aload_n 2, 1) := by decide +kernel
theorem zL2 : decode zLcode 2 = .ok (.iload_n 3, 1) := by decide +kernel
theorem zL3 : decode zLcode 3 = .ok (.iload 4, 2) := by decide +kernel
theorem zL5 : decode zLcode 5 = .ok (.invokestatic 17, 3) := by decide +kernel
theorem zL8 : decode zLcode 8 = .ok (.return_, 1) := by decide +kernel
def zLd : String := "(LBarrelProcessor$Machine;LBarrelProcessor$Lane;II)V"
def zDf (nm : String) : ClassFile := ((zSh nm).file "BarrelProcessor").getD { minorVersion := 0, majorVersion := 0, constantPool := #[], accessFlags := 0, thisClass := 0, superClass := 0, interfaces := #[], fields := #[], methods := #[], attributes := #[] }
def zFw (nm : String) : Method := ((layoutMethods (zDf nm)).bind (·[1]?)).getD default
theorem zDf_s : ∀ q ∈ zLs, ((zSh q.2.2).file "BarrelProcessor").isSome = true := by decide +kernel
theorem zFw_s : ∀ q ∈ zLs, ((layoutMethods (zDf q.2.2)).bind (·[1]?)).isSome = true := by decide +kernel
theorem zFw_c : ∀ q ∈ zLs, ((zFw q.2.2).code.map fun c => (c.code.data, c.maxLocals)) = some (zLcode.data, 5) := by decide +kernel
theorem zFw_f : ∀ q ∈ zLs, ((zFw q.2.2).accessFlags, (zFw q.2.2).name, (zFw q.2.2).sig.returnType) = (0x0001, "run", none) := by decide +kernel
theorem zDf_17 : ∀ q ∈ zLs, (zDf q.2.2).constantPool[17]? = some (.methodref 14 16) ∧ (zDf q.2.2).constantPool.className? 14 = some "BarrelProcessor" ∧ (zDf q.2.2).constantPool.nameAndType? 16 = some (q.2.2, zLd) := by decide +kernel
theorem zDf_14 : ∀ q ∈ zLs, (zDf q.2.2).constantPool[14]? = some (.class_ 13) ∧ (zDf q.2.2).constantPool.string? 13 = some "BarrelProcessor" ∧ 14 ≠ (zDf q.2.2).thisClass := by decide +kernel
