/-- TowerComputer$Compiler.statements()V -/
def m_7_40 : List am_B := [
  (true, [(.aload_n 0, []), (.invokevirtual 118, [1, 7, 1, 1, 1, 0, 1]), (.iconst 1, []), (.if_icmp .ne 55, [2]), (.aload_n 0, []), (.invokevirtual 122, [1, 7, 2, 1, 1, 0, 1]), (.bipush 15, []), (.if_icmp .eq 39, [1]), (.aload_n 0, []), (.invokevirtual 122, [1, 7, 2, 1, 1, 0, 1]), (.bipush 17, []), (.if_icmp .eq 30, [1]), (.aload_n 0, []), (.invokevirtual 122, [1, 7, 2, 1, 1, 0, 1]), (.bipush 19, []), (.if_icmp .eq 21, [1]), (.aload_n 0, []), (.invokevirtual 122, [1, 7, 2, 1, 1, 0, 1]), (.bipush 16, []), (.if_icmp .eq 12, [1]), (.aload_n 0, []), (.invokevirtual 122, [1, 7, 2, 1, 1, 0, 1]), (.bipush 20, []), (.if_icmp .ne 10, [2]), (.nop, [1])]),
  (false, [(.aload_n 0, []), (.invokevirtual 333, [1, 7, 42, 1, 0, 0, 1]), (.goto (-57), [0])]),
  (false, [(.return_, [])])]
/-- TowerComputer$Compiler.step(I)V -/
def m_7_41 : List am_B := [
  (false, [(.aload_n 0, []), (.getfield 142, [7, 23, 3]), (.ifCond .ne 11, [1]), (.aload_n 0, []), (.bipush 20, []), (.iload_n 1, []), (.iconst 0, []), (.invokevirtual 319, [1, 7, 17, 4, 0, 0, 1]), (.nop, [1])]),
  (false, [(.return_, [])])]
/-- TowerComputer$Compiler.statement()V -/
def m_7_42 : List am_B := [
  (false, [(.aload_n 0, []), (.invokevirtual 122, [1, 7, 2, 1, 1, 0, 1]), (.istore_n 1, []), (.aload_n 0, []), (.invokevirtual 131, [1, 7, 3, 1, 1, 0, 1]), (.istore_n 2, []), (.aload_n 0, []), (.iload_n 2, []), (.invokevirtual 336, [1, 7, 41, 2, 0, 0, 1]), (.aload_n 0, []), (.invokevirtual 153, [1, 7, 10, 1, 0, 0, 1]), (.iload_n 1, []), (.tableswitch 126 15 19 #[36, 58, 43, 126, 50], [8, 1, 4, 2, 8, 3])]),
  (false, [(.aload_n 0, []), (.invokevirtual 339, [1, 7, 43, 1, 0, 0, 1]), (.goto 135, [11])]),
  (false, [(.aload_n 0, []), (.invokevirtual 342, [1, 7, 49, 1, 0, 0, 1]), (.goto 128, [11])]),
  (false, [(.aload_n 0, []), (.iload_n 2, []), (.invokevirtual 345, [1, 7, 50, 2, 0, 0, 1]), (.goto 120, [11])]),
  (false, [(.aload_n 0, []), (.invokevirtual 131, [1, 7, 3, 1, 1, 0, 1]), (.istore_n 3, []), (.aload_n 0, []), (.invokevirtual 348, [1, 7, 12, 1, 1, 0, 1]), (.istore 4, []), (.aload_n 0, []), (.aload_n 0, []), (.bipush 40, []), (.invokevirtual 145, [1, 7, 4, 2, 1, 0, 1]), (.ifCond .ne 12, [5]), (.aload_n 0, []), (.bipush 46, []), (.invokevirtual 145, [1, 7, 4, 2, 1, 0, 1]), (.ifCond .eq 7, [6]), (.nop, [5])]),
  (false, [(.iconst 1, []), (.goto 4, [7])]),
  (false, [(.iconst 0, []), (.nop, [7])]),
  (true, [(.invokevirtual 149, [1, 7, 7, 2, 0, 0, 1]), (.aload_n 0, []), (.iload 4, []), (.iload_n 3, []), (.invokevirtual 351, [1, 7, 68, 3, 0, 0, 1]), (.aload_n 0, []), (.iconst 5, []), (.iconst 0, []), (.invokevirtual 230, [1, 7, 15, 3, 0, 0, 1]), (.aload_n 0, []), (.iconst 1, []), (.bipush 7, []), (.iconst 0, []), (.invokevirtual 198, [1, 7, 19, 4, 0, 0, 1]), (.aload_n 0, []), (.bipush 59, []), (.invokevirtual 284, [1, 7, 11, 2, 0, 0, 1]), (.goto 52, [11])]),
  (true, [(.aload_n 0, []), (.bipush 59, []), (.invokevirtual 145, [1, 7, 4, 2, 1, 0, 1]), (.ifCond .eq 19, [9]), (.aload_n 0, []), (.iconst 0, []), (.iconst 0, []), (.invokevirtual 320, [1, 7, 14, 3, 0, 0, 1]), (.aload_n 0, []), (.iconst 0, []), (.iconst 0, []), (.iconst 0, []), (.invokevirtual 198, [1, 7, 19, 4, 0, 0, 1]), (.goto 7, [10])]),
  (false, [(.aload_n 0, []), (.invokevirtual 354, [1, 7, 60, 1, 0, 0, 1]), (.nop, [10])]),
  (true, [(.aload_n 0, []), (.bipush 59, []), (.invokevirtual 284, [1, 7, 11, 2, 0, 0, 1]), (.aload_n 0, []), (.bipush 16, []), (.invokevirtual 332, [1, 7, 16, 2, 0, 0, 1]), (.aload_n 0, []), (.bipush 16, []), (.iconst 0, []), (.iconst 0, []), (.invokevirtual 198, [1, 7, 19, 4, 0, 0, 1]), (.nop, [11])]),
  (false, [(.return_, [])])]
/-- TowerComputer$Compiler.let()V -/
def m_7_43 : List am_B := [
  (false, [(.aload_n 0, []), (.invokevirtual 131, [1, 7, 3, 1, 1, 0, 1]), (.istore_n 1, []), (.aload_n 0, []), (.invokevirtual 348, [1, 7, 12, 1, 1, 0, 1]), (.istore_n 2, []), (.aload_n 0, []), (.bipush 91, []), (.invokevirtual 145, [1, 7, 4, 2, 1, 0, 1]), (.istore_n 3, []), (.iload_n 3, []), (.ifCond .eq 12, [1]), (.aload_n 0, []), (.iload_n 2, []), (.iload_n 1, []), (.invokevirtual 357, [1, 7, 46, 3, 0, 0, 1]), (.goto 50, [5])]),
  (false, [(.aload_n 0, []), (.aload_n 0, []), (.iload_n 2, []), (.invokevirtual 360, [1, 7, 51, 2, 1, 0, 1]), (.iconst 4, []), (.iload_n 1, []), (.invokevirtual 271, [1, 7, 9, 4, 0, 0, 1]), (.aload_n 0, []), (.aload_n 0, []), (.getfield 138, [7, 24, 3]), (.ifCond .eq 20, [2]), (.aload_n 0, []), (.getfield 306, [7, 14, 0]), (.iconst 2, []), (.if_icmp .ne 12, [2]), (.aload_n 0, []), (.iload_n 2, []), (.invokevirtual 363, [1, 7, 52, 2, 1, 0, 1]), (.iconst 4, []), (.if_icmp .eq 7, [3]), (.nop, [2])]),
  (false, [(.iconst 1, []), (.goto 4, [4])]),
  (false, [(.iconst 0, []), (.nop, [4])]),
  (false, [(.bipush 6, []), (.iload_n 1, []), (.invokevirtual 271, [1, 7, 9, 4, 0, 0, 1]), (.nop, [5])]),
  (true, [(.aload_n 0, []), (.bipush 61, []), (.invokevirtual 284, [1, 7, 11, 2, 0, 0, 1]), (.aload_n 0, []), (.invokevirtual 354, [1, 7, 60, 1, 0, 0, 1]), (.aload_n 0, []), (.bipush 59, []), (.invokevirtual 284, [1, 7, 11, 2, 0, 0, 1]), (.iload_n 3, []), (.ifCond .ne 15, [6]), (.aload_n 0, []), (.iload_n 2, []), (.invokevirtual 366, [1, 7, 58, 2, 0, 0, 1]), (.aload_n 0, []), (.iconst 1, []), (.iload_n 2, []), (.invokevirtual 369, [1, 7, 22, 3, 0, 0, 1]), (.return_, [])]),
  (false, [(.aload_n 0, []), (.iconst 5, []), (.iconst 0, []), (.invokevirtual 230, [1, 7, 15, 3, 0, 0, 1]), (.aload_n 0, []), (.invokevirtual 372, [1, 7, 44, 1, 0, 0, 1]), (.aload_n 0, []), (.iconst 1, []), (.bipush 7, []), (.iconst 0, []), (.invokevirtual 198, [1, 7, 19, 4, 0, 0, 1]), (.aload_n 0, []), (.iconst 1, []), (.bipush 6, []), (.iconst 1, []), (.invokevirtual 198, [1, 7, 19, 4, 0, 0, 1]), (.aload_n 0, []), (.iconst 0, []), (.bipush 7, []), (.iconst 0, []), (.invokevirtual 198, [1, 7, 19, 4, 0, 0, 1]), (.aload_n 0, []), (.iconst 1, []), (.iconst 5, []), (.iconst 0, []), (.invokevirtual 198, [1, 7, 19, 4, 0, 0, 1]), (.return_, [])])]
/-- TowerComputer$Compiler.write()V -/
def m_7_44 : List am_B := [
  (false, [(.aload_n 0, []), (.bipush 18, []), (.aload_n 0, []), (.getfield 12, [7, 1, 1]), (.getfield 277, [6, 1, 1]), (.aload_n 0, []), (.getfield 246, [7, 13, 0]), (.baload, [4]), (.ifCond .eq 7, [1]), (.iconst 1, []), (.goto 4, [2])]),
  (false, [(.iconst 0, []), (.nop, [2])]),
  (false, [(.iconst 0, []), (.invokevirtual 319, [1, 7, 17, 4, 0, 0, 1]), (.return_, [])])]
/-- TowerComputer$Compiler.read()V -/
def m_7_45 : List am_B := [
  (false, [(.aload_n 0, []), (.bipush 17, []), (.aload_n 0, []), (.getfield 12, [7, 1, 1]), (.getfield 277, [6, 1, 1]), (.aload_n 0, []), (.getfield 246, [7, 13, 0]), (.baload, [4]), (.ifCond .eq 7, [1]), (.iconst 1, []), (.goto 4, [2])]),
  (false, [(.iconst 0, []), (.nop, [2])]),
  (false, [(.iconst 0, []), (.invokevirtual 319, [1, 7, 17, 4, 0, 0, 1]), (.return_, [])])]
/-- TowerComputer$Compiler.index(II)V -/
def m_7_46 : List am_B := [
  (false, [(.aload_n 0, []), (.iload_n 1, []), (.iload_n 2, []), (.invokevirtual 375, [1, 7, 57, 3, 0, 0, 1]), (.aload_n 0, []), (.invokevirtual 316, [1, 7, 13, 1, 0, 0, 1]), (.aload_n 0, []), (.invokevirtual 153, [1, 7, 10, 1, 0, 0, 1]), (.aload_n 0, []), (.invokevirtual 354, [1, 7, 60, 1, 0, 0, 1]), (.aload_n 0, []), (.aload_n 0, []), (.bipush 93, []), (.invokevirtual 145, [1, 7, 4, 2, 1, 0, 1]), (.invokevirtual 149, [1, 7, 7, 2, 0, 0, 1]), (.aload_n 0, []), (.dup, []), (.getfield 156, [7, 11, 0]), (.iconst 1, []), (.isub, []), (.putfield 156, [7, 11, 0]), (.aload_n 0, []), (.invokevirtual 153, [1, 7, 10, 1, 0, 0, 1]), (.aload_n 0, []), (.iconst 2, []), (.invokevirtual 332, [1, 7, 16, 2, 0, 0, 1]), (.aload_n 0, []), (.iconst 2, []), (.iconst 0, []), (.iconst 0, []), (.invokevirtual 198, [1, 7, 19, 4, 0, 0, 1]), (.return_, [])])]
/-- TowerComputer$Compiler.block()V -/
def m_7_47 : List am_B := [
  (false, [(.aload_n 0, []), (.aload_n 0, []), (.bipush 123, []), (.invokevirtual 145, [1, 7, 4, 2, 1, 0, 1]), (.invokevirtual 149, [1, 7, 7, 2, 0, 0, 1]), (.aload_n 0, []), (.invokevirtual 316, [1, 7, 13, 1, 0, 0, 1]), (.aload_n 0, []), (.invokevirtual 153, [1, 7, 10, 1, 0, 0, 1]), (.aload_n 0, []), (.invokevirtual 329, [1, 7, 40, 1, 0, 0, 1]), (.aload_n 0, []), (.aload_n 0, []), (.bipush 125, []), (.invokevirtual 145, [1, 7, 4, 2, 1, 0, 1]), (.invokevirtual 149, [1, 7, 7, 2, 0, 0, 1]), (.aload_n 0, []), (.dup, []), (.getfield 156, [7, 11, 0]), (.iconst 1, []), (.isub, []), (.putfield 156, [7, 11, 0]), (.aload_n 0, []), (.invokevirtual 153, [1, 7, 10, 1, 0, 0, 1]), (.return_, [])])]
/-- TowerComputer$Compiler.condition()V -/
def m_7_48 : List am_B := [
  (false, [(.aload_n 0, []), (.aload_n 0, []), (.bipush 40, []), (.invokevirtual 145, [1, 7, 4, 2, 1, 0, 1]), (.invokevirtual 149, [1, 7, 7, 2, 0, 0, 1]), (.aload_n 0, []), (.invokevirtual 316, [1, 7, 13, 1, 0, 0, 1]), (.aload_n 0, []), (.invokevirtual 153, [1, 7, 10, 1, 0, 0, 1]), (.aload_n 0, []), (.invokevirtual 354, [1, 7, 60, 1, 0, 0, 1]), (.aload_n 0, []), (.aload_n 0, []), (.bipush 41, []), (.invokevirtual 145, [1, 7, 4, 2, 1, 0, 1]), (.invokevirtual 149, [1, 7, 7, 2, 0, 0, 1]), (.aload_n 0, []), (.dup, []), (.getfield 156, [7, 11, 0]), (.iconst 1, []), (.isub, []), (.putfield 156, [7, 11, 0]), (.aload_n 0, []), (.invokevirtual 153, [1, 7, 10, 1, 0, 0, 1]), (.return_, [])])]
/-- TowerComputer$Compiler.choice()V -/
def m_7_49 : List am_B := [
  (false, [(.aload_n 0, []), (.invokevirtual 378, [1, 7, 21, 1, 1, 0, 1]), (.istore_n 1, []), (.aload_n 0, []), (.invokevirtual 381, [1, 7, 48, 1, 0, 0, 1]), (.aload_n 0, []), (.iload_n 1, []), (.invokevirtual 384, [1, 7, 23, 2, 0, 0, 1]), (.aload_n 0, []), (.invokevirtual 387, [1, 7, 18, 1, 1, 0, 1]), (.istore_n 2, []), (.aload_n 0, []), (.invokevirtual 387, [1, 7, 18, 1, 1, 0, 1]), (.istore_n 3, []), (.aload_n 0, []), (.bipush 13, []), (.iload_n 2, []), (.iconst 0, []), (.invokevirtual 319, [1, 7, 17, 4, 0, 0, 1]), (.aload_n 0, []), (.bipush 12, []), (.iload_n 3, []), (.iconst 0, []), (.invokevirtual 319, [1, 7, 17, 4, 0, 0, 1]), (.aload_n 0, []), (.bipush 11, []), (.iload_n 2, []), (.iconst 0, []), (.invokevirtual 319, [1, 7, 17, 4, 0, 0, 1]), (.aload_n 0, []), (.invokevirtual 388, [1, 7, 47, 1, 0, 0, 1]), (.aload_n 0, []), (.bipush 18, []), (.invokevirtual 268, [1, 7, 5, 2, 1, 0, 1]), (.ifCond .ne 20, [1]), (.aload_n 0, []), (.bipush 11, []), (.iload_n 3, []), (.iconst 0, []), (.invokevirtual 319, [1, 7, 17, 4, 0, 0, 1]), (.aload_n 0, []), (.bipush 11, []), (.iload_n 1, []), (.iconst 0, []), (.invokevirtual 198, [1, 7, 19, 4, 0, 0, 1]), (.return_, [])]),
  (false, [(.aload_n 0, []), (.invokevirtual 387, [1, 7, 18, 1, 1, 0, 1]), (.istore 4, []), (.aload_n 0, []), (.bipush 12, []), (.iload 4, []), (.iconst 0, []), (.invokevirtual 319, [1, 7, 17, 4, 0, 0, 1]), (.aload_n 0, []), (.bipush 11, []), (.iload_n 3, []), (.iconst 0, []), (.invokevirtual 319, [1, 7, 17, 4, 0, 0, 1]), (.aload_n 0, []), (.bipush 12, []), (.iload_n 1, []), (.iconst 1, []), (.iadd, []), (.iconst 0, []), (.invokevirtual 198, [1, 7, 19, 4, 0, 0, 1]), (.aload_n 0, []), (.bipush 11, []), (.iload_n 1, []), (.iconst 0, []), (.invokevirtual 198, [1, 7, 19, 4, 0, 0, 1]), (.aload_n 0, []), (.invokevirtual 153, [1, 7, 10, 1, 0, 0, 1]), (.aload_n 0, []), (.invokevirtual 388, [1, 7, 47, 1, 0, 0, 1]), (.aload_n 0, []), (.bipush 11, []), (.iload 4, []), (.iconst 0, []), (.invokevirtual 319, [1, 7, 17, 4, 0, 0, 1]), (.aload_n 0, []), (.bipush 11, []), (.iload_n 1, []), (.iconst 1, []), (.iadd, []), (.iconst 0, []), (.invokevirtual 198, [1, 7, 19, 4, 0, 0, 1]), (.return_, [])])]
/-- TowerComputer$Compiler.loop(I)V -/
def m_7_50 : List am_B := [
  (false, [(.aload_n 0, []), (.invokevirtual 387, [1, 7, 18, 1, 1, 0, 1]), (.istore_n 2, []), (.aload_n 0, []), (.invokevirtual 387, [1, 7, 18, 1, 1, 0, 1]), (.istore_n 3, []), (.aload_n 0, []), (.invokevirtual 378, [1, 7, 21, 1, 1, 0, 1]), (.istore 4, []), (.aload_n 0, []), (.bipush 11, []), (.iload_n 2, []), (.iconst 0, []), (.invokevirtual 319, [1, 7, 17, 4, 0, 0, 1]), (.aload_n 0, []), (.bipush 11, []), (.iload 4, []), (.iconst 0, []), (.invokevirtual 198, [1, 7, 19, 4, 0, 0, 1]), (.aload_n 0, []), (.iload_n 1, []), (.invokevirtual 336, [1, 7, 41, 2, 0, 0, 1]), (.aload_n 0, []), (.invokevirtual 381, [1, 7, 48, 1, 0, 0, 1]), (.aload_n 0, []), (.iload 4, []), (.iconst 1, []), (.iadd, []), (.invokevirtual 384, [1, 7, 23, 2, 0, 0, 1]), (.aload_n 0, []), (.invokevirtual 387, [1, 7, 18, 1, 1, 0, 1]), (.istore 5, []), (.aload_n 0, []), (.bipush 13, []), (.iload 5, []), (.iconst 0, []), (.invokevirtual 319, [1, 7, 17, 4, 0, 0, 1]), (.aload_n 0, []), (.bipush 12, []), (.iload_n 3, []), (.iconst 0, []), (.invokevirtual 319, [1, 7, 17, 4, 0, 0, 1]), (.aload_n 0, []), (.bipush 11, []), (.iload 5, []), (.iconst 0, []), (.invokevirtual 319, [1, 7, 17, 4, 0, 0, 1]), (.aload_n 0, []), (.invokevirtual 388, [1, 7, 47, 1, 0, 0, 1]), (.aload_n 0, []), (.bipush 12, []), (.iload_n 2, []), (.iconst 0, []), (.invokevirtual 319, [1, 7, 17, 4, 0, 0, 1]), (.aload_n 0, []), (.bipush 11, []), (.iload_n 3, []), (.iconst 0, []), (.invokevirtual 319, [1, 7, 17, 4, 0, 0, 1]), (.nop, [1])]),
  (true, [(.aload_n 0, []), (.bipush 12, []), (.iload 4, []), (.iconst 0, []), (.invokevirtual 198, [1, 7, 19, 4, 0, 0, 1]), (.aload_n 0, []), (.bipush 11, []), (.iload 4, []), (.iconst 1, []), (.iadd, []), (.iconst 0, []), (.invokevirtual 198, [1, 7, 19, 4, 0, 0, 1]), (.return_, [])])]
/-- TowerComputer$Compiler.isVariable(I)Z -/
def m_7_51 : List am_B := [
  (false, [(.aload_n 0, []), (.getfield 32, [7, 7, 1]), (.iload_n 1, []), (.invokevirtual 192, [1, 15, 1, 2, 1, 0, 1]), (.iconst (-1), []), (.if_icmp .ne 15, [1]), (.aload_n 0, []), (.getfield 28, [7, 6, 1]), (.iload_n 1, []), (.invokevirtual 192, [1, 15, 1, 2, 1, 0, 1]), (.iconst (-1), []), (.if_icmp .eq 7, [2]), (.nop, [1])]),
  (false, [(.iconst 1, []), (.goto 4, [3])]),
  (false, [(.iconst 0, []), (.nop, [3])]),
  (false, [(.ireturn, [1])])]
/-- TowerComputer$Compiler.kindOf(I)I -/
def m_7_52 : List am_B := [
  (false, [(.aload_n 0, []), (.getfield 32, [7, 7, 1]), (.iload_n 1, []), (.invokevirtual 192, [1, 15, 1, 2, 1, 0, 1]), (.iconst (-1), []), (.if_icmp .eq 22, [1]), (.aload_n 0, []), (.getfield 32, [7, 7, 1]), (.getfield 195, [15, 1, 1]), (.aload_n 0, []), (.getfield 32, [7, 7, 1]), (.iload_n 1, []), (.invokevirtual 192, [1, 15, 1, 2, 1, 0, 1]), (.iaload, []), (.goto 19, [2])]),
  (false, [(.aload_n 0, []), (.getfield 28, [7, 6, 1]), (.getfield 195, [15, 1, 1]), (.aload_n 0, []), (.getfield 28, [7, 6, 1]), (.iload_n 1, []), (.invokevirtual 192, [1, 15, 1, 2, 1, 0, 1]), (.iaload, []), (.nop, [2])]),
  (false, [(.ireturn, [])])]
/-- TowerComputer$Compiler.typeOf(I)I -/
def m_7_53 : List am_B := [
  (false, [(.aload_n 0, []), (.getfield 32, [7, 7, 1]), (.iload_n 1, []), (.invokevirtual 192, [1, 15, 1, 2, 1, 0, 1]), (.iconst (-1), []), (.if_icmp .eq 22, [1]), (.aload_n 0, []), (.getfield 32, [7, 7, 1]), (.getfield 391, [15, 3, 1]), (.aload_n 0, []), (.getfield 32, [7, 7, 1]), (.iload_n 1, []), (.invokevirtual 192, [1, 15, 1, 2, 1, 0, 1]), (.iaload, []), (.goto 19, [2])]),
  (false, [(.aload_n 0, []), (.getfield 28, [7, 6, 1]), (.getfield 391, [15, 3, 1]), (.aload_n 0, []), (.getfield 28, [7, 6, 1]), (.iload_n 1, []), (.invokevirtual 192, [1, 15, 1, 2, 1, 0, 1]), (.iaload, []), (.nop, [2])]),
  (false, [(.ireturn, [])])]
/-- TowerComputer$Compiler.placeOf(I)I -/
def m_7_54 : List am_B := [
  (false, [(.aload_n 0, []), (.getfield 32, [7, 7, 1]), (.iload_n 1, []), (.invokevirtual 192, [1, 15, 1, 2, 1, 0, 1]), (.iconst (-1), []), (.if_icmp .eq 22, [1]), (.aload_n 0, []), (.getfield 32, [7, 7, 1]), (.getfield 394, [15, 2, 1]), (.aload_n 0, []), (.getfield 32, [7, 7, 1]), (.iload_n 1, []), (.invokevirtual 192, [1, 15, 1, 2, 1, 0, 1]), (.iaload, []), (.goto 19, [2])]),
  (false, [(.aload_n 0, []), (.getfield 28, [7, 6, 1]), (.getfield 394, [15, 2, 1]), (.aload_n 0, []), (.getfield 28, [7, 6, 1]), (.iload_n 1, []), (.invokevirtual 192, [1, 15, 1, 2, 1, 0, 1]), (.iaload, []), (.nop, [2])]),
  (false, [(.ireturn, [])])]
/-- TowerComputer$Compiler.segment(I)I -/
def m_7_55 : List am_B := [
  (false, [(.iload_n 0, []), (.iconst 1, []), (.if_icmp .ne 7, [1]), (.iconst 1, []), (.goto 13, [3])]),
  (false, [(.iload_n 0, []), (.iconst 2, []), (.if_icmp .ne 7, [2]), (.iconst 2, []), (.goto 4, [3])]),
  (false, [(.iconst 3, []), (.nop, [3])]),
  (false, [(.ireturn, [])])]
/-- TowerComputer$Compiler.field(I)V -/
def m_7_56 : List am_B := [
  (false, [(.aload_n 0, []), (.bipush 19, []), (.aload_n 0, []), (.iload_n 1, []), (.invokevirtual 395, [1, 7, 54, 2, 1, 0, 1]), (.iconst 0, []), (.invokevirtual 319, [1, 7, 17, 4, 0, 0, 1]), (.return_, [])])]
/-- TowerComputer$Compiler.load(II)V -/
def m_7_57 : List am_B := [
  (false, [(.aload_n 0, []), (.aload_n 0, []), (.iload_n 1, []), (.invokevirtual 360, [1, 7, 51, 2, 1, 0, 1]), (.iconst 4, []), (.iload_n 2, []), (.invokevirtual 271, [1, 7, 9, 4, 0, 0, 1]), (.aload_n 0, []), (.getfield 138, [7, 24, 3]), (.ifCond .ne 4, [1]), (.return_, [])]),
  (false, [(.aload_n 0, []), (.aload_n 0, []), (.getfield 306, [7, 14, 0]), (.iconst 2, []), (.if_icmp .ne 12, [2]), (.aload_n 0, []), (.iload_n 1, []), (.invokevirtual 363, [1, 7, 52, 2, 1, 0, 1]), (.iconst 4, []), (.if_icmp .eq 7, [3]), (.nop, [2])]),
  (false, [(.iconst 1, []), (.goto 4, [4])]),
  (false, [(.iconst 0, []), (.nop, [4])]),
  (true, [(.bipush 6, []), (.iload_n 2, []), (.invokevirtual 271, [1, 7, 9, 4, 0, 0, 1]), (.aload_n 0, []), (.iconst 0, []), (.iload_n 1, []), (.invokevirtual 369, [1, 7, 22, 3, 0, 0, 1]), (.aload_n 0, []), (.iload_n 1, []), (.invokevirtual 363, [1, 7, 52, 2, 1, 0, 1]), (.iconst 4, []), (.if_icmp .ne 15, [5]), (.aload_n 0, []), (.iload_n 1, []), (.invokevirtual 398, [1, 7, 56, 2, 0, 0, 1]), (.aload_n 0, []), (.invokevirtual 401, [1, 7, 45, 1, 0, 0, 1]), (.goto 20, [6])]),
  (false, [(.aload_n 0, []), (.aload_n 0, []), (.iload_n 1, []), (.invokevirtual 363, [1, 7, 52, 2, 1, 0, 1]), (.invokestatic 403, [0, 7, 55, 1, 1, 0, 1]), (.aload_n 0, []), (.iload_n 1, []), (.invokevirtual 395, [1, 7, 54, 2, 1, 0, 1]), (.invokevirtual 320, [1, 7, 14, 3, 0, 0, 1]), (.nop, [6])]),
  (false, [(.return_, [])])]
/-- TowerComputer$Compiler.store(I)V -/
def m_7_58 : List am_B := [
  (false, [(.aload_n 0, []), (.getfield 138, [7, 24, 3]), (.ifCond .ne 4, [1]), (.return_, [])]),
  (false, [(.aload_n 0, []), (.iload_n 1, []), (.invokevirtual 363, [1, 7, 52, 2, 1, 0, 1]), (.iconst 4, []), (.if_icmp .ne 21, [2]), (.aload_n 0, []), (.iconst 5, []), (.iconst 0, []), (.invokevirtual 230, [1, 7, 15, 3, 0, 0, 1]), (.aload_n 0, []), (.iload_n 1, []), (.invokevirtual 398, [1, 7, 56, 2, 0, 0, 1]), (.aload_n 0, []), (.invokevirtual 372, [1, 7, 44, 1, 0, 0, 1]), (.goto 20, [3])]),
  (false, [(.aload_n 0, []), (.aload_n 0, []), (.iload_n 1, []), (.invokevirtual 363, [1, 7, 52, 2, 1, 0, 1]), (.invokestatic 403, [0, 7, 55, 1, 1, 0, 1]), (.aload_n 0, []), (.iload_n 1, []), (.invokevirtual 395, [1, 7, 54, 2, 1, 0, 1]), (.invokevirtual 230, [1, 7, 15, 3, 0, 0, 1]), (.nop, [3])]),
  (false, [(.return_, [])])]
/-- TowerComputer$Compiler.isOperator()Z -/
def m_7_59 : List am_B := [
  (false, [(.aload_n 0, []), (.invokevirtual 118, [1, 7, 1, 1, 1, 0, 1]), (.iconst 5, []), (.if_icmp .eq 5, [1]), (.iconst 0, []), (.ireturn, [1])]),
  (false, [(.aload_n 0, []), (.invokevirtual 122, [1, 7, 2, 1, 1, 0, 1]), (.istore_n 1, []), (.iload_n 1, []), (.bipush 43, []), (.if_icmp .eq 51, [2]), (.iload_n 1, []), (.bipush 45, []), (.if_icmp .eq 45, [2]), (.iload_n 1, []), (.bipush 42, []), (.if_icmp .eq 39, [2]), (.iload_n 1, []), (.bipush 47, []), (.if_icmp .eq 33, [2]), (.iload_n 1, []), (.bipush 38, []), (.if_icmp .eq 27, [2]), (.iload_n 1, []), (.bipush 124, []), (.if_icmp .eq 21, [2]), (.iload_n 1, []), (.bipush 60, []), (.if_icmp .eq 15, [2]), (.iload_n 1, []), (.bipush 62, []), (.if_icmp .eq 9, [2]), (.iload_n 1, []), (.bipush 61, []), (.if_icmp .ne 7, [3]), (.nop, [2])]),
  (false, [(.iconst 1, []), (.goto 4, [4])]),
  (false, [(.iconst 0, []), (.nop, [4])]),
  (false, [(.ireturn, [1])])]
/-- TowerComputer$Compiler.e()V -/
def m_7_60 : List am_B := [
  (false, [(.aload_n 0, []), (.invokevirtual 406, [1, 7, 63, 1, 0, 0, 1]), (.nop, [1])]),
  (true, [(.aload_n 0, []), (.invokevirtual 409, [1, 7, 59, 1, 1, 0, 1]), (.ifCond .eq 24, [2]), (.aload_n 0, []), (.invokevirtual 122, [1, 7, 2, 1, 1, 0, 1]), (.istore_n 1, []), (.aload_n 0, []), (.invokevirtual 153, [1, 7, 10, 1, 0, 0, 1]), (.aload_n 0, []), (.invokevirtual 406, [1, 7, 63, 1, 0, 0, 1]), (.aload_n 0, []), (.iload_n 1, []), (.invokevirtual 413, [1, 7, 62, 2, 0, 0, 1]), (.goto (-25), [1])]),
  (false, [(.return_, [])])]
/-- TowerComputer$Compiler.both(II)V -/
def m_7_61 : List am_B := [
  (false, [(.aload_n 0, []), (.iload_n 1, []), (.invokevirtual 332, [1, 7, 16, 2, 0, 0, 1]), (.aload_n 0, []), (.iload_n 2, []), (.iconst 0, []), (.iconst 0, []), (.invokevirtual 198, [1, 7, 19, 4, 0, 0, 1]), (.return_, [])])]
/-- TowerComputer$Compiler.operator(I)V -/
def m_7_62 : List am_B := [
  (false, [(.iload_n 1, []), (.lookupswitch 138 #[(38, 85), (43, 67), (45, 76), (60, 105), (61, 127), (62, 116), (124, 94)], [8, 3, 1, 2, 5, 7, 6, 4])]),
  (false, [(.aload_n 0, []), (.iconst 2, []), (.iconst 2, []), (.invokevirtual 416, [1, 7, 61, 3, 0, 0, 1]), (.goto 131, [13])]),
  (false, [(.aload_n 0, []), (.iconst 3, []), (.iconst 3, []), (.invokevirtual 416, [1, 7, 61, 3, 0, 0, 1]), (.goto 122, [13])]),
  (false, [(.aload_n 0, []), (.iconst 5, []), (.iconst 5, []), (.invokevirtual 416, [1, 7, 61, 3, 0, 0, 1]), (.goto 113, [13])]),
  (false, [(.aload_n 0, []), (.bipush 6, []), (.bipush 6, []), (.invokevirtual 416, [1, 7, 61, 3, 0, 0, 1]), (.goto 102, [13])]),
  (false, [(.aload_n 0, []), (.bipush 9, []), (.bipush 9, []), (.invokevirtual 416, [1, 7, 61, 3, 0, 0, 1]), (.goto 91, [13])]),
  (false, [(.aload_n 0, []), (.bipush 10, []), (.bipush 10, []), (.invokevirtual 416, [1, 7, 61, 3, 0, 0, 1]), (.goto 80, [13])]),
  (false, [(.aload_n 0, []), (.bipush 8, []), (.bipush 8, []), (.invokevirtual 416, [1, 7, 61, 3, 0, 0, 1]), (.goto 69, [13])]),
  (false, [(.aload_n 0, []), (.aload_n 0, []), (.getfield 12, [7, 1, 1]), (.aload_n 0, []), (.getfield 95, [7, 33, 0]), (.invokevirtual 226, [1, 6, 1, 2, 1, 0, 1]), (.iload_n 1, []), (.bipush 42, []), (.if_icmp .ne 10, [9]), (.aload_n 0, []), (.getfield 98, [7, 34, 0]), (.goto 7, [10])]),
  (false, [(.aload_n 0, []), (.getfield 101, [7, 35, 0]), (.nop, [10])]),
  (true, [(.iconst 2, []), (.invokevirtual 227, [1, 7, 25, 4, 0, 0, 1]), (.aload_n 0, []), (.aload_n 0, []), (.getfield 12, [7, 1, 1]), (.aload_n 0, []), (.getfield 95, [7, 33, 0]), (.invokevirtual 226, [1, 6, 1, 2, 1, 0, 1]), (.iload_n 1, []), (.bipush 42, []), (.if_icmp .ne 10, [11]), (.aload_n 0, []), (.getfield 98, [7, 34, 0]), (.goto 7, [12])]),
  (false, [(.aload_n 0, []), (.getfield 101, [7, 35, 0]), (.nop, [12])]),
  (false, [(.iconst 2, []), (.invokevirtual 326, [1, 7, 20, 4, 0, 0, 1]), (.nop, [13])]),
  (false, [(.return_, [])])]
/-- TowerComputer$Compiler.term()V -/
def m_7_63 : List am_B := [
  (false, [(.aload_n 0, []), (.invokevirtual 118, [1, 7, 1, 1, 1, 0, 1]), (.istore_n 1, []), (.aload_n 0, []), (.invokevirtual 122, [1, 7, 2, 1, 1, 0, 1]), (.istore_n 2, []), (.iload_n 1, []), (.iconst 3, []), (.if_icmp .ne 23, [1]), (.aload_n 0, []), (.iconst 0, []), (.iload_n 2, []), (.invokevirtual 320, [1, 7, 14, 3, 0, 0, 1]), (.aload_n 0, []), (.iconst 0, []), (.iconst 0, []), (.iload_n 2, []), (.invokevirtual 198, [1, 7, 19, 4, 0, 0, 1]), (.aload_n 0, []), (.invokevirtual 153, [1, 7, 10, 1, 0, 0, 1]), (.goto 133, [13])]),
  (false, [(.iload_n 1, []), (.iconst 4, []), (.if_icmp .ne 10, [2]), (.aload_n 0, []), (.invokevirtual 419, [1, 7, 65, 1, 0, 0, 1]), (.goto 121, [13])]),
  (false, [(.iload_n 1, []), (.iconst 1, []), (.if_icmp .ne 11, [3]), (.aload_n 0, []), (.iload_n 2, []), (.invokevirtual 421, [1, 7, 64, 2, 0, 0, 1]), (.goto 108, [13])]),
  (false, [(.iload_n 1, []), (.iconst 2, []), (.if_icmp .ne 10, [4]), (.aload_n 0, []), (.invokevirtual 424, [1, 7, 66, 1, 0, 0, 1]), (.goto 96, [13])]),
  (false, [(.aload_n 0, []), (.bipush 40, []), (.invokevirtual 145, [1, 7, 4, 2, 1, 0, 1]), (.ifCond .eq 10, [5]), (.aload_n 0, []), (.invokevirtual 381, [1, 7, 48, 1, 0, 0, 1]), (.goto 80, [13])]),
  (false, [(.aload_n 0, []), (.aload_n 0, []), (.bipush 45, []), (.invokevirtual 145, [1, 7, 4, 2, 1, 0, 1]), (.ifCond .ne 12, [6]), (.aload_n 0, []), (.bipush 126, []), (.invokevirtual 145, [1, 7, 4, 2, 1, 0, 1]), (.ifCond .eq 7, [7]), (.nop, [6])]),
  (false, [(.iconst 1, []), (.goto 4, [8])]),
  (false, [(.iconst 0, []), (.nop, [8])]),
  (true, [(.invokevirtual 149, [1, 7, 7, 2, 0, 0, 1]), (.aload_n 0, []), (.invokevirtual 316, [1, 7, 13, 1, 0, 0, 1]), (.aload_n 0, []), (.invokevirtual 153, [1, 7, 10, 1, 0, 0, 1]), (.aload_n 0, []), (.invokevirtual 406, [1, 7, 63, 1, 0, 0, 1]), (.aload_n 0, []), (.dup, []), (.getfield 156, [7, 11, 0]), (.iconst 1, []), (.isub, []), (.putfield 156, [7, 11, 0]), (.aload_n 0, []), (.iload_n 2, []), (.bipush 45, []), (.if_icmp .ne 7, [9]), (.iconst 4, []), (.goto 5, [10])]),
  (false, [(.bipush 7, []), (.nop, [10])]),
  (true, [(.iload_n 2, []), (.bipush 45, []), (.if_icmp .ne 7, [11]), (.iconst 4, []), (.goto 5, [12])]),
  (false, [(.bipush 7, []), (.nop, [12])]),
  (false, [(.invokevirtual 416, [1, 7, 61, 3, 0, 0, 1]), (.nop, [13])]),
  (false, [(.return_, [])])]
/-- TowerComputer$Compiler.word(I)V -/
def m_7_64 : List am_B := [
  (false, [(.aload_n 0, []), (.iload_n 1, []), (.bipush 11, []), (.if_icmp .eq 21, [1]), (.iload_n 1, []), (.bipush 12, []), (.if_icmp .eq 15, [1]), (.iload_n 1, []), (.bipush 13, []), (.if_icmp .eq 9, [1]), (.iload_n 1, []), (.bipush 14, []), (.if_icmp .ne 7, [2]), (.nop, [1])]),
  (false, [(.iconst 1, []), (.goto 4, [3])]),
  (false, [(.iconst 0, []), (.nop, [3])]),
  (true, [(.invokevirtual 149, [1, 7, 7, 2, 0, 0, 1]), (.iload_n 1, []), (.bipush 14, []), (.if_icmp .ne 43, [6]), (.aload_n 0, []), (.aload_n 0, []), (.getfield 306, [7, 14, 0]), (.iconst 2, []), (.if_icmp .eq 7, [4]), (.iconst 1, []), (.goto 4, [5])]),
  (false, [(.iconst 0, []), (.nop, [5])]),
  (true, [(.bipush 6, []), (.aload_n 0, []), (.invokevirtual 131, [1, 7, 3, 1, 1, 0, 1]), (.invokevirtual 271, [1, 7, 9, 4, 0, 0, 1]), (.aload_n 0, []), (.iconst 4, []), (.iconst 0, []), (.invokevirtual 320, [1, 7, 14, 3, 0, 0, 1]), (.aload_n 0, []), (.iconst 0, []), (.bipush 6, []), (.iconst 0, []), (.invokevirtual 198, [1, 7, 19, 4, 0, 0, 1]), (.goto 30, [7])]),
  (false, [(.aload_n 0, []), (.iconst 0, []), (.iconst 0, []), (.invokevirtual 320, [1, 7, 14, 3, 0, 0, 1]), (.aload_n 0, []), (.iconst 0, []), (.iconst 0, []), (.iconst 0, []), (.invokevirtual 198, [1, 7, 19, 4, 0, 0, 1]), (.iload_n 1, []), (.bipush 11, []), (.if_icmp .ne 11, [7]), (.aload_n 0, []), (.bipush 7, []), (.bipush 7, []), (.invokevirtual 416, [1, 7, 61, 3, 0, 0, 1]), (.nop, [7])]),
  (false, [(.aload_n 0, []), (.invokevirtual 153, [1, 7, 10, 1, 0, 0, 1]), (.return_, [])])]
/-- TowerComputer$Compiler.string()V -/
def m_7_65 : List am_B := [
  (false, [(.aload_n 0, []), (.invokevirtual 122, [1, 7, 2, 1, 1, 0, 1]), (.istore_n 1, []), (.aload_n 0, []), (.aload_n 0, []), (.getfield 142, [7, 23, 3]), (.ifCond .ne 15, [1]), (.aload_n 0, []), (.getfield 234, [7, 12, 0]), (.iload_n 1, []), (.iadd, []), (.sipush 300, []), (.if_icmp .gt 7, [2]), (.nop, [1])]),
  (false, [(.iconst 1, []), (.goto 4, [3])]),
  (false, [(.iconst 0, []), (.nop, [3])]),
  (true, [(.invokevirtual 159, [1, 7, 8, 2, 0, 0, 1]), (.aload_n 0, []), (.dup, []), (.getfield 234, [7, 12, 0]), (.iload_n 1, []), (.iadd, []), (.putfield 234, [7, 12, 0]), (.aload_n 0, []), (.invokevirtual 131, [1, 7, 3, 1, 1, 0, 1]), (.iconst 1, []), (.iadd, []), (.istore_n 2, []), (.aload_n 0, []), (.getfield 12, [7, 1, 1]), (.aload_n 0, []), (.getfield 86, [7, 30, 0]), (.invokevirtual 226, [1, 6, 1, 2, 1, 0, 1]), (.istore_n 3, []), (.aload_n 0, []), (.iconst 0, []), (.iload_n 1, []), (.invokevirtual 320, [1, 7, 14, 3, 0, 0, 1]), (.aload_n 0, []), (.iload_n 3, []), (.aload_n 0, []), (.getfield 89, [7, 31, 0]), (.iconst 1, []), (.invokevirtual 227, [1, 7, 25, 4, 0, 0, 1]), (.aload_n 0, []), (.iconst 0, []), (.iconst 0, []), (.iload_n 1, []), (.invokevirtual 198, [1, 7, 19, 4, 0, 0, 1]), (.aload_n 0, []), (.iload_n 3, []), (.aload_n 0, []), (.getfield 89, [7, 31, 0]), (.iconst 1, []), (.invokevirtual 326, [1, 7, 20, 4, 0, 0, 1]), (.iconst 0, []), (.istore 4, []), (.nop, [4])]),
  (true, [(.iload 4, []), (.iload_n 1, []), (.if_icmp .ge 58, [6]), (.aload_n 0, []), (.iconst 0, []), (.aload_n 0, []), (.getfield 60, [7, 4, 1]), (.iload_n 2, []), (.iload 4, []), (.iadd, []), (.baload, [2]), (.invokevirtual 320, [1, 7, 14, 3, 0, 0, 1]), (.aload_n 0, []), (.iload_n 3, []), (.aload_n 0, []), (.getfield 92, [7, 32, 0]), (.iconst 2, []), (.invokevirtual 227, [1, 7, 25, 4, 0, 0, 1]), (.nop, [5])]),
  (true, [(.aload_n 0, []), (.iconst 0, []), (.iconst 0, []), (.aload_n 0, []), (.getfield 60, [7, 4, 1]), (.iload_n 2, []), (.iload 4, []), (.iadd, []), (.baload, [2]), (.invokevirtual 198, [1, 7, 19, 4, 0, 0, 1]), (.aload_n 0, []), (.iload_n 3, []), (.aload_n 0, []), (.getfield 92, [7, 32, 0]), (.iconst 2, []), (.invokevirtual 326, [1, 7, 20, 4, 0, 0, 1]), (.iinc 4 1, []), (.goto (-58), [4])]),
  (false, [(.aload_n 0, []), (.invokevirtual 153, [1, 7, 10, 1, 0, 0, 1]), (.return_, [])])]
/-- TowerComputer$Compiler.named()V -/
def m_7_66 : List am_B := [
  (false, [(.aload_n 0, []), (.invokevirtual 131, [1, 7, 3, 1, 1, 0, 1]), (.istore_n 1, []), (.aload_n 0, []), (.invokevirtual 348, [1, 7, 12, 1, 1, 0, 1]), (.istore_n 2, []), (.aload_n 0, []), (.bipush 91, []), (.invokevirtual 145, [1, 7, 4, 2, 1, 0, 1]), (.ifCond .eq 20, [1]), (.aload_n 0, []), (.iload_n 2, []), (.iload_n 1, []), (.invokevirtual 357, [1, 7, 46, 3, 0, 0, 1]), (.aload_n 0, []), (.invokevirtual 401, [1, 7, 45, 1, 0, 0, 1]), (.aload_n 0, []), (.invokevirtual 427, [1, 7, 24, 1, 0, 0, 1]), (.goto 36, [4])]),
  (false, [(.aload_n 0, []), (.bipush 40, []), (.invokevirtual 145, [1, 7, 4, 2, 1, 0, 1]), (.ifCond .ne 12, [2]), (.aload_n 0, []), (.bipush 46, []), (.invokevirtual 145, [1, 7, 4, 2, 1, 0, 1]), (.ifCond .eq 12, [3]), (.nop, [2])]),
  (false, [(.aload_n 0, []), (.iload_n 2, []), (.iload_n 1, []), (.invokevirtual 351, [1, 7, 68, 3, 0, 0, 1]), (.goto 9, [4])]),
  (false, [(.aload_n 0, []), (.iload_n 2, []), (.iload_n 1, []), (.invokevirtual 375, [1, 7, 57, 3, 0, 0, 1]), (.nop, [4])]),
  (false, [(.return_, [])])]
/-- TowerComputer$Compiler.arguments()I -/
def m_7_67 : List am_B := [
  (false, [(.aload_n 0, []), (.aload_n 0, []), (.bipush 40, []), (.invokevirtual 145, [1, 7, 4, 2, 1, 0, 1]), (.invokevirtual 149, [1, 7, 7, 2, 0, 0, 1]), (.aload_n 0, []), (.invokevirtual 316, [1, 7, 13, 1, 0, 0, 1]), (.aload_n 0, []), (.invokevirtual 153, [1, 7, 10, 1, 0, 0, 1]), (.iconst 0, []), (.istore_n 1, []), (.nop, [1])]),
  (true, [(.aload_n 0, []), (.bipush 41, []), (.invokevirtual 145, [1, 7, 4, 2, 1, 0, 1]), (.ifCond .ne 23, [3]), (.iload_n 1, []), (.ifCond .le 9, [2]), (.aload_n 0, []), (.bipush 44, []), (.invokevirtual 284, [1, 7, 11, 2, 0, 0, 1]), (.nop, [2])]),
  (false, [(.aload_n 0, []), (.invokevirtual 354, [1, 7, 60, 1, 0, 0, 1]), (.iinc 1 1, []), (.goto (-26), [1])]),
  (false, [(.aload_n 0, []), (.dup, []), (.getfield 156, [7, 11, 0]), (.iconst 1, []), (.isub, []), (.putfield 156, [7, 11, 0]), (.aload_n 0, []), (.invokevirtual 153, [1, 7, 10, 1, 0, 0, 1]), (.iload_n 1, []), (.ireturn, [])])]
/-- TowerComputer$Compiler.called(II)V -/
def m_7_68 : List am_B := [
  (false, [(.aload_n 0, []), (.getfield 246, [7, 13, 0]), (.istore_n 3, []), (.iload_n 1, []), (.istore 4, []), (.iload_n 2, []), (.istore 5, []), (.iconst 1, []), (.istore 6, []), (.aload_n 0, []), (.bipush 46, []), (.invokevirtual 145, [1, 7, 4, 2, 1, 0, 1]), (.istore 7, []), (.iload 7, []), (.ifCond .eq 98, [7]), (.aload_n 0, []), (.invokevirtual 153, [1, 7, 10, 1, 0, 0, 1]), (.aload_n 0, []), (.invokevirtual 131, [1, 7, 3, 1, 1, 0, 1]), (.istore 5, []), (.aload_n 0, []), (.invokevirtual 348, [1, 7, 12, 1, 1, 0, 1]), (.istore 4, []), (.aload_n 0, []), (.iload_n 1, []), (.invokevirtual 360, [1, 7, 51, 2, 1, 0, 1]), (.istore 6, []), (.aload_n 0, []), (.iload 6, []), (.ifCond .ne 12, [1]), (.aload_n 0, []), (.iload_n 1, []), (.invokevirtual 303, [1, 7, 32, 2, 1, 0, 1]), (.iconst (-1), []), (.if_icmp .eq 7, [2]), (.nop, [1])]),
  (false, [(.iconst 1, []), (.goto 4, [3])]),
  (false, [(.iconst 0, []), (.nop, [3])]),
  (true, [(.iconst 4, []), (.iload_n 2, []), (.invokevirtual 271, [1, 7, 9, 4, 0, 0, 1]), (.aload_n 0, []), (.getfield 138, [7, 24, 3]), (.ifCond .ne 10, [4]), (.aload_n 0, []), (.getfield 246, [7, 13, 0]), (.goto 21, [6])]),
  (false, [(.iload 6, []), (.ifCond .eq 11, [5]), (.aload_n 0, []), (.iload_n 1, []), (.invokevirtual 430, [1, 7, 53, 2, 1, 0, 1]), (.goto 8, [6])]),
  (false, [(.aload_n 0, []), (.iload_n 1, []), (.invokevirtual 303, [1, 7, 32, 2, 1, 0, 1]), (.nop, [6])]),
  (false, [(.istore_n 3, []), (.iload 6, []), (.ifCond .eq 82, [12]), (.aload_n 0, []), (.iload_n 1, []), (.iload_n 2, []), (.invokevirtual 375, [1, 7, 57, 3, 0, 0, 1]), (.goto 73, [12])]),
  (false, [(.aload_n 0, []), (.aload_n 0, []), (.iload_n 3, []), (.iload 4, []), (.invokevirtual 433, [1, 7, 33, 3, 1, 0, 1]), (.iconst (-1), []), (.if_icmp .eq 7, [8]), (.iconst 1, []), (.goto 4, [9])]),
  (false, [(.iconst 0, []), (.nop, [9])]),
  (true, [(.iconst 4, []), (.iload_n 2, []), (.invokevirtual 271, [1, 7, 9, 4, 0, 0, 1]), (.aload_n 0, []), (.aload_n 0, []), (.getfield 21, [7, 2, 1]), (.getfield 252, [12, 2, 1]), (.iconst 0, []), (.aload_n 0, []), (.iload_n 3, []), (.iload 4, []), (.invokevirtual 433, [1, 7, 33, 3, 1, 0, 1]), (.invokestatic 321, [5, 0, 0, 2, 0, 0, 0]), (.iaload, []), (.iconst 3, []), (.if_icmp .ne 7, [10]), (.iconst 1, []), (.goto 4, [11])]),
  (false, [(.iconst 0, []), (.nop, [11])]),
  (true, [(.iconst 5, []), (.iload_n 2, []), (.invokevirtual 271, [1, 7, 9, 4, 0, 0, 1]), (.aload_n 0, []), (.iconst 4, []), (.iconst 0, []), (.invokevirtual 320, [1, 7, 14, 3, 0, 0, 1]), (.aload_n 0, []), (.iconst 0, []), (.bipush 6, []), (.iconst 0, []), (.invokevirtual 198, [1, 7, 19, 4, 0, 0, 1]), (.nop, [12])]),
  (true, [(.aload_n 0, []), (.iload_n 3, []), (.iconst (-1), []), (.if_icmp .eq 18, [13]), (.aload_n 0, []), (.iload_n 3, []), (.iload 4, []), (.invokevirtual 433, [1, 7, 33, 3, 1, 0, 1]), (.iconst (-1), []), (.if_icmp .eq 7, [13]), (.iconst 1, []), (.goto 4, [14])]),
  (false, [(.iconst 0, []), (.nop, [14])]),
  (true, [(.iconst 4, []), (.iload 5, []), (.invokevirtual 271, [1, 7, 9, 4, 0, 0, 1]), (.aload_n 0, []), (.getfield 138, [7, 24, 3]), (.ifCond .eq 13, [15]), (.aload_n 0, []), (.iload_n 3, []), (.iload 4, []), (.invokevirtual 433, [1, 7, 33, 3, 1, 0, 1]), (.goto 4, [16])]),
  (false, [(.iconst 0, []), (.nop, [16])]),
  (true, [(.istore 8, []), (.aload_n 0, []), (.aload_n 0, []), (.getfield 21, [7, 2, 1]), (.getfield 252, [12, 2, 1]), (.iload 8, []), (.iaload, []), (.iconst 3, []), (.if_icmp .ne 7, [17]), (.iconst 1, []), (.goto 4, [18])]),
  (false, [(.iconst 0, []), (.nop, [18])]),
  (false, [(.iload 6, []), (.if_icmp .ne 7, [19]), (.iconst 1, []), (.goto 4, [20])]),
  (false, [(.iconst 0, []), (.nop, [20])]),
  (true, [(.iconst 5, []), (.iload 5, []), (.invokevirtual 271, [1, 7, 9, 4, 0, 0, 1]), (.aload_n 0, []), (.invokevirtual 436, [1, 7, 69, 1, 1, 0, 1]), (.istore 9, []), (.aload_n 0, []), (.aload_n 0, []), (.getfield 21, [7, 2, 1]), (.getfield 255, [12, 3, 1]), (.iload 8, []), (.iaload, []), (.iload 9, []), (.if_icmp .ne 7, [21]), (.iconst 1, []), (.goto 4, [22])]),
  (false, [(.iconst 0, []), (.nop, [22])]),
  (true, [(.iconst 5, []), (.iload 5, []), (.invokevirtual 271, [1, 7, 9, 4, 0, 0, 1]), (.aload_n 0, []), (.iload 7, []), (.ifCond .ne 11, [23]), (.aload_n 0, []), (.getfield 306, [7, 14, 0]), (.iconst 2, []), (.if_icmp .eq 7, [24]), (.nop, [23])]),
  (false, [(.iconst 1, []), (.goto 4, [25])]),
  (false, [(.iconst 0, []), (.nop, [25])]),
  (true, [(.bipush 6, []), (.iload_n 2, []), (.invokevirtual 271, [1, 7, 9, 4, 0, 0, 1]), (.aload_n 0, []), (.invokevirtual 439, [1, 7, 67, 1, 1, 0, 1]), (.pop, []), (.aload_n 0, []), (.bipush 15, []), (.iload 8, []), (.iload 6, []), (.ifCond .eq 10, [26]), (.iload 9, []), (.iconst 1, []), (.iadd, []), (.goto 5, [27])]),
  (false, [(.iload 9, []), (.nop, [27])]),
  (true, [(.invokevirtual 319, [1, 7, 17, 4, 0, 0, 1]), (.aload_n 0, []), (.bipush 15, []), (.aload_n 0, []), (.getfield 21, [7, 2, 1]), (.getfield 182, [12, 4, 1]), (.iload 8, []), (.iaload, []), (.iload 6, []), (.ifCond .eq 10, [28]), (.iload 9, []), (.iconst 1, []), (.iadd, []), (.goto 5, [29])]),
  (false, [(.iload 9, []), (.nop, [29])]),
  (false, [(.invokevirtual 198, [1, 7, 19, 4, 0, 0, 1]), (.return_, [])])]
/-- TowerComputer$Compiler.count()I -/
def m_7_69 : List am_B := [
  (false, [(.iconst 0, []), (.istore_n 1, []), (.iconst 0, []), (.istore_n 2, []), (.aload_n 0, []), (.getfield 107, [7, 8, 0]), (.istore_n 3, []), (.iconst 0, []), (.istore 4, []), (.nop, [1])]),
  (true, [(.aload_n 0, []), (.getfield 69, [7, 5, 1]), (.getfield 104, [13, 2, 1]), (.iload_n 3, []), (.baload, [2]), (.ifCond .eq 149, [17]), (.aload_n 0, []), (.getfield 69, [7, 5, 1]), (.getfield 104, [13, 2, 1]), (.iload_n 3, []), (.baload, [2]), (.bipush 6, []), (.if_icmp .eq 135, [17]), (.aload_n 0, []), (.getfield 69, [7, 5, 1]), (.getfield 104, [13, 2, 1]), (.iload_n 3, []), (.baload, [2]), (.iconst 5, []), (.if_icmp .ne 7, [2]), (.iconst 1, []), (.goto 4, [3])]),
  (false, [(.iconst 0, []), (.nop, [3])]),
  (true, [(.istore 5, []), (.iload 5, []), (.ifCond .eq 15, [4]), (.aload_n 0, []), (.getfield 69, [7, 5, 1]), (.getfield 110, [13, 3, 1]), (.iload_n 3, []), (.saload, []), (.goto 4, [5])]),
  (false, [(.iconst 0, []), (.nop, [5])]),
  (false, [(.istore 6, []), (.iload 6, []), (.bipush 40, []), (.if_icmp .eq 10, [6]), (.iload 6, []), (.bipush 91, []), (.if_icmp .ne 6, [7]), (.nop, [6])]),
  (false, [(.iinc 1 1, []), (.nop, [7])]),
  (true, [(.iload 6, []), (.bipush 41, []), (.if_icmp .eq 10, [8]), (.iload 6, []), (.bipush 93, []), (.if_icmp .ne 6, [9]), (.nop, [8])]),
  (false, [(.iinc 1 (-1), []), (.nop, [9])]),
  (false, [(.iload 6, []), (.bipush 44, []), (.if_icmp .ne 11, [10]), (.iload_n 1, []), (.iconst 1, []), (.if_icmp .ne 6, [10]), (.iinc 2 1, []), (.nop, [10])]),
  (true, [(.iload_n 1, []), (.ifCond .ne 16, [13]), (.iload 4, []), (.ifCond .eq 9, [11]), (.iload_n 2, []), (.iconst 1, []), (.iadd, []), (.goto 4, [12])]),
  (false, [(.iconst 0, []), (.nop, [12])]),
  (false, [(.ireturn, [])]),
  (false, [(.iload 4, []), (.ifCond .ne 11, [14]), (.iload_n 3, []), (.aload_n 0, []), (.getfield 107, [7, 8, 0]), (.if_icmp .le 7, [15]), (.nop, [14])]),
  (false, [(.iconst 1, []), (.goto 4, [16])]),
  (false, [(.iconst 0, []), (.nop, [16])]),
  (false, [(.istore 4, []), (.iinc 3 1, []), (.goto (-155), [1])]),
  (false, [(.iload_n 2, []), (.ireturn, [])])]
/-- TowerComputer$Listing.<init>()V -/
def m_8_0 : List am_B := [
  (false, [(.aload_n 0, []), (.invokespecial 1, [3, 0, 0, 1, 0, 0, 0]), (.aload_n 0, []), (.sipush 8000, []), (.newarray .byte, [2]), (.putfield 9, [8, 0, 1]), (.aload_n 0, []), (.sipush 8000, []), (.newarray .short, [3]), (.putfield 13, [8, 1, 1]), (.aload_n 0, []), (.sipush 8000, []), (.newarray .short, [3]), (.putfield 17, [8, 2, 1]), (.return_, [])])]
/-- TowerComputer$Listing.add(III)V -/
def m_8_1 : List am_B := [
  (false, [(.aload_n 0, []), (.getfield 9, [8, 0, 1]), (.aload_n 0, []), (.getfield 20, [8, 3, 0]), (.iload_n 1, []), (.i2b, []), (.bastore, [2]), (.aload_n 0, []), (.getfield 13, [8, 1, 1]), (.aload_n 0, []), (.getfield 20, [8, 3, 0]), (.iload_n 2, []), (.i2s, []), (.sastore, []), (.aload_n 0, []), (.getfield 17, [8, 2, 1]), (.aload_n 0, []), (.getfield 20, [8, 3, 0]), (.iload_n 3, []), (.i2s, []), (.sastore, []), (.aload_n 0, []), (.dup, []), (.getfield 20, [8, 3, 0]), (.iconst 1, []), (.iadd, []), (.putfield 20, [8, 3, 0]), (.return_, [])])]
/-- TowerComputer$Listing.get(II)I -/
def m_8_2 : List am_B := [
  (false, [(.iload_n 2, []), (.ifCond .ne 12, [1]), (.aload_n 0, []), (.getfield 9, [8, 0, 1]), (.iload_n 1, []), (.baload, [2]), (.goto 23, [3])]),
  (false, [(.iload_n 2, []), (.iconst 1, []), (.if_icmp .ne 12, [2]), (.aload_n 0, []), (.getfield 13, [8, 1, 1]), (.iload_n 1, []), (.saload, []), (.goto 9, [3])]),
  (false, [(.aload_n 0, []), (.getfield 17, [8, 2, 1]), (.iload_n 1, []), (.saload, []), (.nop, [3])]),
  (false, [(.ireturn, [])])]
/-- TowerComputer$Names.<init>()V -/
def m_9_0 : List am_B := [
  (false, [(.aload_n 0, []), (.invokespecial 1, [3, 0, 0, 1, 0, 0, 0]), (.aload_n 0, []), (.sipush 18000, []), (.newarray .byte, [2]), (.putfield 9, [9, 0, 1]), (.aload_n 0, []), (.sipush 1400, []), (.newarray .int, [1]), (.putfield 13, [9, 1, 1]), (.aload_n 0, []), (.sipush 1400, []), (.newarray .int, [1]), (.putfield 17, [9, 2, 1]), (.return_, [])])]
/-- TowerComputer$Names.find([BII)I -/
def m_9_1 : List am_B := [
  (false, [(.iconst 0, []), (.istore 4, []), (.nop, [1])]),
  (true, [(.iload 4, []), (.aload_n 0, []), (.getfield 20, [9, 3, 0]), (.if_icmp .ge 34, [3]), (.aload_n 0, []), (.getfield 17, [9, 2, 1]), (.iload 4, []), (.iaload, []), (.iload_n 3, []), (.if_icmp .ne 17, [2]), (.aload_n 0, []), (.iload 4, []), (.aload_n 1, []), (.iload_n 2, []), (.invokevirtual 24, [1, 9, 2, 4, 1, 0, 1]), (.ifCond .eq 6, [2]), (.iload 4, []), (.ireturn, [])]),
  (false, [(.iinc 4 1, []), (.goto (-37), [1])]),
  (false, [(.aload_n 0, []), (.getfield 13, [9, 1, 1]), (.aload_n 0, []), (.getfield 20, [9, 3, 0]), (.aload_n 0, []), (.getfield 28, [9, 4, 0]), (.iastore, []), (.aload_n 0, []), (.getfield 17, [9, 2, 1]), (.aload_n 0, []), (.getfield 20, [9, 3, 0]), (.iload_n 3, []), (.iastore, []), (.iconst 0, []), (.istore 4, []), (.nop, [4])]),
  (true, [(.iload 4, []), (.iload_n 3, []), (.if_icmp .ge 27, [5]), (.aload_n 0, []), (.getfield 9, [9, 0, 1]), (.aload_n 0, []), (.getfield 28, [9, 4, 0]), (.iload 4, []), (.iadd, []), (.aload_n 1, []), (.iload_n 2, []), (.iload 4, []), (.iadd, []), (.baload, [2]), (.bastore, [2]), (.iinc 4 1, []), (.goto (-27), [4])]),
  (false, [(.aload_n 0, []), (.dup, []), (.getfield 28, [9, 4, 0]), (.iload_n 3, []), (.iadd, []), (.putfield 28, [9, 4, 0]), (.aload_n 0, []), (.dup, []), (.getfield 20, [9, 3, 0]), (.iconst 1, []), (.iadd, []), (.putfield 20, [9, 3, 0]), (.aload_n 0, []), (.getfield 20, [9, 3, 0]), (.iconst 1, []), (.isub, []), (.ireturn, [])])]
/-- TowerComputer$Names.isAt(I[BI)Z -/
def m_9_2 : List am_B := [
  (false, [(.iconst 1, []), (.istore 4, []), (.iconst 0, []), (.istore 5, []), (.nop, [1])]),
  (true, [(.iload 5, []), (.aload_n 0, []), (.getfield 17, [9, 2, 1]), (.iload_n 1, []), (.iaload, []), (.if_icmp .ge 44, [4]), (.iload 4, []), (.ifCond .eq 39, [4]), (.aload_n 0, []), (.getfield 9, [9, 0, 1]), (.aload_n 0, []), (.getfield 13, [9, 1, 1]), (.iload_n 1, []), (.iaload, []), (.iload 5, []), (.iadd, []), (.baload, [2]), (.aload_n 2, []), (.iload_n 3, []), (.iload 5, []), (.iadd, []), (.baload, [2]), (.if_icmp .ne 7, [2]), (.iconst 1, []), (.goto 4, [3])]),
  (false, [(.iconst 0, []), (.nop, [3])]),
  (false, [(.istore 4, []), (.iinc 5 1, []), (.goto (-49), [1])]),
  (false, [(.iload 4, []), (.ireturn, [1])])]
/-- TowerComputer$Names.isHidden(I)Z -/
def m_9_3 : List am_B := [
  (false, [(.aload_n 0, []), (.getfield 9, [9, 0, 1]), (.aload_n 0, []), (.getfield 13, [9, 1, 1]), (.iload_n 1, []), (.iaload, []), (.baload, [2]), (.bipush 95, []), (.if_icmp .ne 7, [1]), (.iconst 1, []), (.goto 4, [2])]),
  (false, [(.iconst 0, []), (.nop, [2])]),
  (false, [(.ireturn, [1])])]
/-- TowerComputer$Names.forget(I)V -/
def m_9_4 : List am_B := [
  (false, [(.aload_n 0, []), (.iload_n 1, []), (.aload_n 0, []), (.getfield 20, [9, 3, 0]), (.if_icmp .ge 12, [1]), (.aload_n 0, []), (.getfield 13, [9, 1, 1]), (.iload_n 1, []), (.iaload, []), (.goto 7, [2])]),
  (false, [(.aload_n 0, []), (.getfield 28, [9, 4, 0]), (.nop, [2])]),
  (false, [(.putfield 28, [9, 4, 0]), (.aload_n 0, []), (.iload_n 1, []), (.putfield 20, [9, 3, 0]), (.return_, [])])]
/-- TowerComputer$Processor.<init>(LTowerComputer$Translator;)V -/
def m_10_0 : List am_B := [
  (false, [(.aload_n 0, []), (.invokespecial 1, [3, 0, 0, 1, 0, 0, 0]), (.aload_n 0, []), (.ldc 7, [0, 32768]), (.newarray .short, [3]), (.putfield 8, [10, 0, 1]), (.aload_n 0, []), (.sipush 200, []), (.newarray .byte, [2]), (.putfield 14, [10, 2, 1]), (.aload_n 0, []), (.sipush 3000, []), (.newarray .byte, [2]), (.putfield 18, [10, 3, 1]), (.aload_n 0, []), (.bipush 42, []), (.newarray .int, [1]), (.putfield 21, [10, 4, 1]), (.aload_n 0, []), (.aload_n 1, []), (.putfield 25, [10, 1, 1]), (.return_, [])])]
/-- TowerComputer$Processor.read(I)I -/
def m_10_1 : List am_B := [
  (false, [(.iload_n 1, []), (.sipush 32000, []), (.if_icmp .ge 10, [1]), (.aload_n 0, []), (.getfield 8, [10, 0, 1]), (.iload_n 1, []), (.saload, []), (.ireturn, [])]),
  (false, [(.aload_n 0, []), (.getfield 29, [10, 6, 0]), (.aload_n 0, []), (.getfield 33, [10, 5, 0]), (.if_icmp .ge 19, [2]), (.aload_n 0, []), (.getfield 14, [10, 2, 1]), (.aload_n 0, []), (.getfield 29, [10, 6, 0]), (.baload, [2]), (.sipush 255, []), (.iand, []), (.goto 4, [3])]),
  (false, [(.iconst 0, []), (.nop, [3])]),
  (true, [(.istore_n 2, []), (.iload_n 1, []), (.sipush 32002, []), (.if_icmp .ne 24, [4]), (.aload_n 0, []), (.getfield 29, [10, 6, 0]), (.aload_n 0, []), (.getfield 33, [10, 5, 0]), (.if_icmp .ge 13, [4]), (.aload_n 0, []), (.dup, []), (.getfield 29, [10, 6, 0]), (.iconst 1, []), (.iadd, []), (.putfield 29, [10, 6, 0]), (.nop, [4])]),
  (true, [(.iload_n 1, []), (.sipush 32005, []), (.if_icmp .ne 13, [5]), (.aload_n 0, []), (.getfield 33, [10, 5, 0]), (.aload_n 0, []), (.getfield 29, [10, 6, 0]), (.isub, []), (.ireturn, [])]),
  (false, [(.iload_n 1, []), (.sipush 32002, []), (.if_icmp .eq 10, [6]), (.iload_n 1, []), (.sipush 32003, []), (.if_icmp .ne 7, [7]), (.nop, [6])]),
  (false, [(.iload_n 2, []), (.goto 4, [8])]),
  (false, [(.iconst 0, []), (.nop, [8])]),
  (false, [(.ireturn, [])])]
/-- TowerComputer$Processor.write(II)V -/
def m_10_2 : List am_B := [
  (false, [(.iload_n 1, []), (.sipush 32000, []), (.if_icmp .ge 14, [1]), (.aload_n 0, []), (.getfield 8, [10, 0, 1]), (.iload_n 1, []), (.iload_n 2, []), (.i2s, []), (.sastore, []), (.goto 77, [5])]),
  (false, [(.iload_n 1, []), (.sipush 32001, []), (.if_icmp .ne 38, [3]), (.aload_n 0, []), (.getfield 36, [10, 7, 0]), (.sipush 3000, []), (.if_icmp .ne 4, [2]), (.return_, [])]),
  (false, [(.aload_n 0, []), (.getfield 18, [10, 3, 1]), (.aload_n 0, []), (.getfield 36, [10, 7, 0]), (.iload_n 2, []), (.i2b, []), (.bastore, [2]), (.aload_n 0, []), (.dup, []), (.getfield 36, [10, 7, 0]), (.iconst 1, []), (.iadd, []), (.putfield 36, [10, 7, 0]), (.goto 35, [5])]),
  (false, [(.iload_n 1, []), (.sipush 32000, []), (.if_icmp .ne 11, [4]), (.aload_n 0, []), (.iconst 0, []), (.invokevirtual 39, [1, 10, 3, 2, 0, 0, 1]), (.goto 20, [5])]),
  (false, [(.iload_n 1, []), (.sipush 32004, []), (.if_icmp .ne 13, [5]), (.aload_n 0, []), (.iload_n 2, []), (.putfield 45, [10, 13, 0]), (.aload_n 0, []), (.iconst 3, []), (.invokevirtual 39, [1, 10, 3, 2, 0, 0, 1]), (.nop, [5])]),
  (false, [(.return_, [])])]
/-- TowerComputer$Processor.stop(I)V -/
def m_10_3 : List am_B := [
  (false, [(.aload_n 0, []), (.iload_n 1, []), (.putfield 48, [10, 12, 0]), (.aload_n 0, []), (.iconst 0, []), (.putfield 51, [10, 14, 3]), (.return_, [])])]
/-- TowerComputer$Processor.watch(I)V -/
def m_10_4 : List am_B := [
  (false, [(.iload_n 1, []), (.iconst 2, []), (.if_icmp .ne 14, [1]), (.aload_n 0, []), (.dup, []), (.getfield 55, [10, 10, 0]), (.iconst 1, []), (.isub, []), (.putfield 55, [10, 10, 0]), (.return_, [])]),
  (false, [(.iload_n 1, []), (.iconst 2, []), (.if_icmp .le 15, [2]), (.aload_n 0, []), (.getfield 21, [10, 4, 1]), (.aload_n 0, []), (.getfield 55, [10, 10, 0]), (.iload_n 1, []), (.iconst 3, []), (.isub, []), (.iastore, []), (.nop, [2])]),
  (true, [(.aload_n 0, []), (.getfield 58, [10, 8, 0]), (.aload_n 0, []), (.getfield 61, [10, 9, 0]), (.if_icmp .ne 9, [3]), (.aload_n 0, []), (.iconst 1, []), (.invokevirtual 39, [1, 10, 3, 2, 0, 0, 1]), (.return_, [])]),
  (false, [(.aload_n 0, []), (.dup, []), (.getfield 58, [10, 8, 0]), (.iconst 1, []), (.iadd, []), (.putfield 58, [10, 8, 0]), (.iload_n 1, []), (.iconst 2, []), (.if_icmp .le 4, [4]), (.return_, [])]),
  (false, [(.aload_n 0, []), (.getfield 55, [10, 10, 0]), (.bipush 40, []), (.if_icmp .ne 9, [5]), (.aload_n 0, []), (.iconst 2, []), (.invokevirtual 39, [1, 10, 3, 2, 0, 0, 1]), (.return_, [])]),
  (false, [(.aload_n 0, []), (.getfield 21, [10, 4, 1]), (.aload_n 0, []), (.getfield 55, [10, 10, 0]), (.iconst 1, []), (.iadd, []), (.aload_n 0, []), (.getfield 21, [10, 4, 1]), (.aload_n 0, []), (.getfield 55, [10, 10, 0]), (.iaload, []), (.iastore, []), (.aload_n 0, []), (.dup, []), (.getfield 55, [10, 10, 0]), (.iconst 1, []), (.iadd, []), (.putfield 55, [10, 10, 0]), (.aload_n 0, []), (.aload_n 0, []), (.getfield 64, [10, 11, 0]), (.aload_n 0, []), (.getfield 55, [10, 10, 0]), (.invokestatic 67, [5, 0, 0, 2, 0, 0, 0]), (.putfield 64, [10, 11, 0]), (.return_, [])])]
/-- TowerComputer$Processor.work(III)I -/
def m_10_5 : List am_B := [
  (false, [(.iload_n 0, []), (.bipush 32, []), (.iand, []), (.ifCond .eq 7, [1]), (.iconst 0, []), (.goto 4, [2])]),
  (false, [(.iload_n 1, []), (.nop, [2])]),
  (false, [(.istore_n 3, []), (.iload_n 0, []), (.bipush 8, []), (.iand, []), (.ifCond .eq 7, [3]), (.iconst 0, []), (.goto 4, [4])]),
  (false, [(.iload_n 2, []), (.nop, [4])]),
  (true, [(.istore 4, []), (.iload_n 0, []), (.bipush 16, []), (.iand, []), (.ifCond .eq 9, [5]), (.iload_n 3, []), (.iconst (-1), []), (.ixor, []), (.goto 4, [6])]),
  (false, [(.iload_n 3, []), (.nop, [6])]),
  (false, [(.istore_n 3, []), (.iload_n 0, []), (.iconst 4, []), (.iand, []), (.ifCond .eq 10, [7]), (.iload 4, []), (.iconst (-1), []), (.ixor, []), (.goto 5, [8])]),
  (false, [(.iload 4, []), (.nop, [8])]),
  (true, [(.istore 4, []), (.iload_n 0, []), (.iconst 2, []), (.iand, []), (.ifCond .eq 10, [9]), (.iload_n 3, []), (.iload 4, []), (.iadd, []), (.goto 7, [10])]),
  (false, [(.iload_n 3, []), (.iload 4, []), (.iand, []), (.nop, [10])]),
  (true, [(.istore 5, []), (.iload_n 0, []), (.iconst 1, []), (.iand, []), (.ifCond .eq 10, [11]), (.iload 5, []), (.iconst (-1), []), (.ixor, []), (.goto 5, [12])]),
  (false, [(.iload 5, []), (.nop, [12])]),
  (false, [(.i2s, []), (.ireturn, [])])]
/-- TowerComputer$Processor.jumps(II)Z -/
def m_10_6 : List am_B := [
  (false, [(.iload_n 0, []), (.iconst 4, []), (.iand, []), (.ifCond .eq 7, [1]), (.iload_n 1, []), (.ifCond .lt 23, [3]), (.nop, [1])]),
  (false, [(.iload_n 0, []), (.iconst 2, []), (.iand, []), (.ifCond .eq 7, [2]), (.iload_n 1, []), (.ifCond .eq 13, [3]), (.nop, [2])]),
  (true, [(.iload_n 0, []), (.iconst 1, []), (.iand, []), (.ifCond .eq 11, [4]), (.iload_n 1, []), (.ifCond .le 7, [4]), (.nop, [3])]),
  (false, [(.iconst 1, []), (.goto 4, [5])]),
  (false, [(.iconst 0, []), (.nop, [5])]),
  (false, [(.ireturn, [1])])]
/-- TowerComputer$Processor.run(II)I -/
def m_10_7 : List am_B := [
  (false, [(.iconst 0, []), (.istore_n 3, []), (.nop, [1])]),
  (true, [(.iload_n 3, []), (.aload_n 0, []), (.getfield 8, [10, 0, 1]), (.arraylength, [0, 3]), (.if_icmp .ge 16, [2]), (.aload_n 0, []), (.getfield 8, [10, 0, 1]), (.iload_n 3, []), (.iconst 0, []), (.sastore, []), (.iinc 3 1, []), (.goto (-19), [1])]),
  (false, [(.aload_n 0, []), (.iconst 0, []), (.putfield 29, [10, 6, 0]), (.aload_n 0, []), (.iconst 0, []), (.putfield 36, [10, 7, 0]), (.aload_n 0, []), (.iconst 0, []), (.putfield 58, [10, 8, 0]), (.aload_n 0, []), (.iload_n 1, []), (.putfield 61, [10, 9, 0]), (.aload_n 0, []), (.iconst 0, []), (.putfield 55, [10, 10, 0]), (.aload_n 0, []), (.iconst 0, []), (.putfield 64, [10, 11, 0]), (.aload_n 0, []), (.iconst 0, []), (.putfield 45, [10, 13, 0]), (.aload_n 0, []), (.getfield 21, [10, 4, 1]), (.iconst 0, []), (.iload_n 2, []), (.iastore, []), (.aload_n 0, []), (.iconst 1, []), (.putfield 51, [10, 14, 3]), (.iconst 0, []), (.istore_n 3, []), (.iconst 0, []), (.istore 4, []), (.iconst 0, []), (.istore 5, []), (.nop, [3])]),
  (true, [(.aload_n 0, []), (.getfield 51, [10, 14, 3]), (.ifCond .eq 175, [13]), (.aload_n 0, []), (.getfield 25, [10, 1, 1]), (.getfield 73, [14, 4, 1]), (.iload_n 3, []), (.saload, []), (.istore 6, []), (.iload 6, []), (.ifCond .eq 9, [4]), (.aload_n 0, []), (.iload 6, []), (.invokevirtual 76, [1, 10, 4, 2, 0, 0, 1]), (.nop, [4])]),
  (true, [(.aload_n 0, []), (.getfield 25, [10, 1, 1]), (.getfield 79, [14, 0, 1]), (.iload_n 3, []), (.saload, []), (.istore 7, []), (.aload_n 0, []), (.getfield 51, [10, 14, 3]), (.ifCond .ne 6, [5]), (.goto 132, [13])]),
  (false, [(.iinc 3 1, []), (.iload 7, []), (.ifCond .lt 10, [6]), (.iload 7, []), (.istore 4, []), (.goto (-62), [3])]),
  (false, [(.iload 7, []), (.sipush 4096, []), (.iand, []), (.ifCond .eq 16, [7]), (.aload_n 0, []), (.iload 4, []), (.sipush 32767, []), (.iand, []), (.invokevirtual 82, [1, 10, 1, 2, 1, 0, 1]), (.goto 5, [8])]),
  (false, [(.iload 4, []), (.nop, [8])]),
  (true, [(.istore 8, []), (.iload 7, []), (.bipush 6, []), (.ishr, []), (.bipush 63, []), (.iand, []), (.iload 5, []), (.iload 8, []), (.invokestatic 86, [0, 10, 5, 3, 1, 0, 1]), (.istore 9, []), (.iload 7, []), (.bipush 8, []), (.iand, []), (.ifCond .eq 15, [9]), (.aload_n 0, []), (.iload 4, []), (.sipush 32767, []), (.iand, []), (.iload 9, []), (.invokevirtual 90, [1, 10, 2, 3, 0, 0, 1]), (.nop, [9])]),
  (true, [(.iload 4, []), (.istore 10, []), (.iload 7, []), (.bipush 32, []), (.iand, []), (.ifCond .eq 7, [10]), (.iload 9, []), (.istore 4, []), (.nop, [10])]),
  (false, [(.iload 7, []), (.bipush 16, []), (.iand, []), (.ifCond .eq 7, [11]), (.iload 9, []), (.istore 5, []), (.nop, [11])]),
  (true, [(.iload 7, []), (.bipush 7, []), (.iand, []), (.iload 9, []), (.invokestatic 94, [0, 10, 6, 2, 1, 0, 1]), (.ifCond .eq 10, [12]), (.iload 10, []), (.sipush 32767, []), (.iand, []), (.istore_n 3, []), (.nop, [12])]),
  (false, [(.goto (-176), [3])]),
  (false, [(.aload_n 0, []), (.getfield 48, [10, 12, 0]), (.ireturn, [])])]
/-- TowerComputer$Signs.<init>([B)V -/
def m_11_0 : List am_B := [
  (false, [(.aload_n 0, []), (.invokespecial 1, [3, 0, 0, 1, 0, 0, 0]), (.aload_n 0, []), (.sipush 1500, []), (.newarray .int, [1]), (.putfield 9, [11, 1, 1]), (.aload_n 0, []), (.sipush 1600, []), (.newarray .byte, [2]), (.putfield 13, [11, 2, 1]), (.aload_n 0, []), (.bipush 100, []), (.newarray .int, [1]), (.putfield 17, [11, 3, 1]), (.aload_n 0, []), (.bipush 100, []), (.newarray .int, [1]), (.putfield 20, [11, 4, 1]), (.aload_n 0, []), (.bipush 7, []), (.anewarray 23, [10]), (.dup, []), (.iconst 0, []), (.ldc 25, [1, 0]), (.aastore, [10]), (.dup, []), (.iconst 1, []), (.ldc 27, [1, 1]), (.aastore, [10]), (.dup, []), (.iconst 2, []), (.ldc 29, [1, 2]), (.aastore, [10]), (.dup, []), (.iconst 3, []), (.ldc 31, [1, 3]), (.aastore, [10]), (.dup, []), (.iconst 4, []), (.ldc 33, [1, 4]), (.aastore, [10]), (.dup, []), (.iconst 5, []), (.ldc 35, [1, 5]), (.aastore, [10]), (.dup, []), (.bipush 6, []), (.ldc 37, [1, 6]), (.aastore, [10]), (.putfield 39, [11, 5, 1]), (.aload_n 0, []), (.bipush 7, []), (.newarray .int, [1]), (.dup, []), (.iconst 0, []), (.iconst 0, []), (.iastore, []), (.dup, []), (.iconst 1, []), (.iconst 1, []), (.iastore, []), (.dup, []), (.iconst 2, []), (.iconst 2, []), (.iastore, []), (.dup, []), (.iconst 3, []), (.iconst 3, []), (.iastore, []), (.dup, []), (.iconst 4, []), (.iconst 4, []), (.iastore, []), (.dup, []), (.iconst 5, []), (.sipush 16384, []), (.iastore, []), (.dup, []), (.bipush 6, []), (.sipush 24576, []), (.iastore, []), (.putfield 43, [11, 6, 1]), (.aload_n 0, []), (.bipush 18, []), (.anewarray 23, [10]), (.dup, []), (.iconst 0, []), (.ldc 46, [1, 7]), (.aastore, [10]), (.dup, []), (.iconst 1, []), (.ldc 48, [1, 8]), (.aastore, [10]), (.dup, []), (.iconst 2, []), (.ldc 50, [1, 9]), (.aastore, [10]), (.dup, []), (.iconst 3, []), (.ldc 52, [1, 10]), (.aastore, [10]), (.dup, []), (.iconst 4, []), (.ldc 54, [1, 11]), (.aastore, [10]), (.dup, []), (.iconst 5, []), (.ldc 56, [1, 12]), (.aastore, [10]), (.dup, []), (.bipush 6, []), (.ldc 58, [1, 13]), (.aastore, [10]), (.dup, []), (.bipush 7, []), (.ldc 60, [1, 14]), (.aastore, [10]), (.dup, []), (.bipush 8, []), (.ldc 62, [1, 15]), (.aastore, [10]), (.dup, []), (.bipush 9, []), (.ldc 64, [1, 16]), (.aastore, [10]), (.dup, []), (.bipush 10, []), (.ldc 66, [1, 17]), (.aastore, [10]), (.dup, []), (.bipush 11, []), (.ldc 68, [1, 18]), (.aastore, [10]), (.dup, []), (.bipush 12, []), (.ldc 70, [1, 19]), (.aastore, [10]), (.dup, []), (.bipush 13, []), (.ldc 72, [1, 20]), (.aastore, [10]), (.dup, []), (.bipush 14, []), (.ldc 74, [1, 21]), (.aastore, [10]), (.dup, []), (.bipush 15, []), (.ldc 76, [1, 22]), (.aastore, [10]), (.dup, []), (.bipush 16, []), (.ldc 78, [1, 23]), (.aastore, [10]), (.dup, []), (.bipush 17, []), (.ldc 80, [1, 24]), (.aastore, [10]), (.putfield 82, [11, 7, 1]), (.aload_n 0, []), (.bipush 18, []), (.newarray .int, [1]), (.dup, []), (.iconst 0, []), (.bipush 42, []), (.iastore, []), (.dup, []), (.iconst 1, []), (.bipush 63, []), (.iastore, []), (.dup, []), (.iconst 2, []), (.bipush 58, []), (.iastore, []), (.dup, []), (.iconst 3, []), (.bipush 12, []), (.iastore, []), (.dup, []), (.iconst 4, []), (.bipush 48, []), (.iastore, []), (.dup, []), (.iconst 5, []), (.bipush 13, []), (.iastore, []), (.dup, []), (.bipush 6, []), (.bipush 49, []), (.iastore, []), (.dup, []), (.bipush 7, []), (.bipush 15, []), (.iastore, []), (.dup, []), (.bipush 8, []), (.bipush 51, []), (.iastore, []), (.dup, []), (.bipush 9, []), (.bipush 31, []), (.iastore, []), (.dup, []), (.bipush 10, []), (.bipush 55, []), (.iastore, []), (.dup, []), (.bipush 11, []), (.bipush 14, []), (.iastore, []), (.dup, []), (.bipush 12, []), (.bipush 50, []), (.iastore, []), (.dup, []), (.bipush 13, []), (.iconst 2, []), (.iastore, []), (.dup, []), (.bipush 14, []), (.bipush 19, []), (.iastore, []), (.dup, []), (.bipush 15, []), (.bipush 7, []), (.iastore, []), (.dup, []), (.bipush 16, []), (.iconst 0, []), (.iastore, []), (.dup, []), (.bipush 17, []), (.bipush 21, []), (.iastore, []), (.putfield 85, [11, 8, 1]), (.aload_n 0, []), (.bipush 7, []), (.anewarray 23, [10]), (.dup, []), (.iconst 0, []), (.ldc 88, [1, 25]), (.aastore, [10]), (.dup, []), (.iconst 1, []), (.ldc 52, [1, 10]), (.aastore, [10]), (.dup, []), (.iconst 2, []), (.ldc 90, [1, 26]), (.aastore, [10]), (.dup, []), (.iconst 3, []), (.ldc 54, [1, 11]), (.aastore, [10]), (.dup, []), (.iconst 4, []), (.ldc 92, [1, 27]), (.aastore, [10]), (.dup, []), (.iconst 5, []), (.ldc 94, [1, 28]), (.aastore, [10]), (.dup, []), (.bipush 6, []), (.ldc 96, [1, 29]), (.aastore, [10]), (.putfield 98, [11, 9, 1]), (.aload_n 0, []), (.bipush 7, []), (.anewarray 23, [10]), (.dup, []), (.iconst 0, []), (.ldc 101, [1, 30]), (.aastore, [10]), (.dup, []), (.iconst 1, []), (.ldc 103, [1, 31]), (.aastore, [10]), (.dup, []), (.iconst 2, []), (.ldc 105, [1, 32]), (.aastore, [10]), (.dup, []), (.iconst 3, []), (.ldc 107, [1, 33]), (.aastore, [10]), (.dup, []), (.iconst 4, []), (.ldc 109, [1, 34]), (.aastore, [10]), (.dup, []), (.iconst 5, []), (.ldc 111, [1, 35]), (.aastore, [10]), (.dup, []), (.bipush 6, []), (.ldc 113, [1, 36]), (.aastore, [10]), (.putfield 115, [11, 10, 1]), (.aload_n 0, []), (.aload_n 1, []), (.putfield 118, [11, 0, 1]), (.return_, [])])]
/-- TowerComputer$Signs.here(I)I -/
def m_11_1 : List am_B := [
  (false, [(.iload_n 1, []), (.aload_n 0, []), (.getfield 121, [11, 11, 0]), (.if_icmp .ge 16, [1]), (.aload_n 0, []), (.getfield 118, [11, 0, 1]), (.iload_n 1, []), (.baload, [2]), (.sipush 255, []), (.iand, []), (.goto 5, [2])]),
  (false, [(.bipush 10, []), (.nop, [2])]),
  (false, [(.ireturn, [])])]
/-- TowerComputer$Signs.isBlank(I)Z -/
def m_11_2 : List am_B := [
  (false, [(.iload_n 0, []), (.bipush 32, []), (.if_icmp .eq 15, [1]), (.iload_n 0, []), (.bipush 9, []), (.if_icmp .eq 9, [1]), (.iload_n 0, []), (.bipush 13, []), (.if_icmp .ne 7, [2]), (.nop, [1])]),
  (false, [(.iconst 1, []), (.goto 4, [3])]),
  (false, [(.iconst 0, []), (.nop, [3])]),
  (false, [(.ireturn, [1])])]
/-- TowerComputer$Signs.isComment(I)Z -/
def m_11_3 : List am_B := [
  (false, [(.aload_n 0, []), (.iload_n 1, []), (.invokevirtual 125, [1, 11, 1, 2, 1, 0, 1]), (.bipush 47, []), (.if_icmp .ne 19, [1]), (.aload_n 0, []), (.iload_n 1, []), (.iconst 1, []), (.iadd, []), (.invokevirtual 125, [1, 11, 1, 2, 1, 0, 1]), (.bipush 47, []), (.if_icmp .ne 7, [1]), (.iconst 1, []), (.goto 4, [2])]),
  (false, [(.iconst 0, []), (.nop, [2])]),
  (false, [(.ireturn, [1])])]
/-- TowerComputer$Signs.isDigit(I)Z -/
def m_11_4 : List am_B := [
  (false, [(.iload_n 0, []), (.bipush 48, []), (.if_icmp .lt 13, [1]), (.iload_n 0, []), (.bipush 57, []), (.if_icmp .gt 7, [1]), (.iconst 1, []), (.goto 4, [2])]),
  (false, [(.iconst 0, []), (.nop, [2])]),
  (false, [(.ireturn, [1])])]
/-- TowerComputer$Signs.isPart(I)Z -/
def m_11_5 : List am_B := [
  (false, [(.iload_n 0, []), (.invokestatic 129, [0, 11, 4, 1, 1, 0, 1]), (.ifCond .ne 51, [3]), (.iload_n 0, []), (.bipush 97, []), (.if_icmp .lt 9, [1]), (.iload_n 0, []), (.bipush 122, []), (.if_icmp .le 39, [3]), (.nop, [1])]),
  (false, [(.iload_n 0, []), (.bipush 65, []), (.if_icmp .lt 9, [2]), (.iload_n 0, []), (.bipush 90, []), (.if_icmp .le 27, [3]), (.nop, [2])]),
  (true, [(.iload_n 0, []), (.bipush 95, []), (.if_icmp .eq 21, [3]), (.iload_n 0, []), (.bipush 46, []), (.if_icmp .eq 15, [3]), (.iload_n 0, []), (.bipush 36, []), (.if_icmp .eq 9, [3]), (.iload_n 0, []), (.bipush 58, []), (.if_icmp .ne 7, [4]), (.nop, [3])]),
  (false, [(.iconst 1, []), (.goto 4, [5])]),
  (false, [(.iconst 0, []), (.nop, [5])]),
  (false, [(.ireturn, [1])])]
/-- TowerComputer$Signs.read(I)I -/
def m_11_6 : List am_B := [
  (false, [(.aload_n 0, []), (.iload_n 1, []), (.putfield 121, [11, 11, 0]), (.aload_n 0, []), (.iconst 0, []), (.putfield 133, [11, 12, 0]), (.aload_n 0, []), (.iconst 0, []), (.putfield 136, [11, 13, 0]), (.aload_n 0, []), (.iconst (-1), []), (.putfield 139, [11, 14, 0]), (.aload_n 0, []), (.iconst 0, []), (.invokevirtual 142, [1, 11, 7, 2, 1, 0, 1]), (.istore_n 2, []), (.iload_n 2, []), (.ifCond .eq 23, [1]), (.aload_n 0, []), (.iconst 0, []), (.putfield 133, [11, 12, 0]), (.aload_n 0, []), (.iconst 0, []), (.putfield 136, [11, 13, 0]), (.aload_n 0, []), (.aload_n 0, []), (.getfield 146, [11, 15, 0]), (.putfield 139, [11, 14, 0]), (.iload_n 2, []), (.ireturn, [])]),
  (false, [(.aload_n 0, []), (.iconst 0, []), (.putfield 133, [11, 12, 0]), (.bipush 16, []), (.istore_n 3, []), (.iconst 0, []), (.istore 4, []), (.nop, [2])]),
  (true, [(.iload 4, []), (.aload_n 0, []), (.getfield 136, [11, 13, 0]), (.if_icmp .ge 34, [5]), (.aload_n 0, []), (.getfield 20, [11, 4, 1]), (.iload 4, []), (.iaload, []), (.iconst (-1), []), (.if_icmp .eq 6, [3]), (.goto 14, [4])]),
  (false, [(.aload_n 0, []), (.getfield 20, [11, 4, 1]), (.iload 4, []), (.iload_n 3, []), (.iastore, []), (.iinc 3 1, []), (.nop, [4])]),
  (false, [(.iinc 4 1, []), (.goto (-37), [2])]),
  (false, [(.aload_n 0, []), (.iconst 1, []), (.invokevirtual 142, [1, 11, 7, 2, 1, 0, 1]), (.ireturn, [])])]
/-- TowerComputer$Signs.go(Z)I -/
def m_11_7 : List am_B := [
  (false, [(.iconst 0, []), (.istore_n 2, []), (.iconst 0, []), (.istore_n 3, []), (.nop, [1])]),
  (true, [(.iload_n 2, []), (.aload_n 0, []), (.getfield 121, [11, 11, 0]), (.if_icmp .ge 155, [15]), (.aload_n 0, []), (.iload_n 2, []), (.invokevirtual 125, [1, 11, 1, 2, 1, 0, 1]), (.istore 4, []), (.iload 4, []), (.bipush 10, []), (.if_icmp .eq 11, [2]), (.iload 4, []), (.invokestatic 149, [0, 11, 2, 1, 1, 0, 1]), (.ifCond .eq 26, [5]), (.nop, [2])]),
  (true, [(.iload_n 3, []), (.ifCond .eq 14, [3]), (.iload 4, []), (.bipush 10, []), (.if_icmp .eq 7, [3]), (.iconst 1, []), (.goto 4, [4])]),
  (false, [(.iconst 0, []), (.nop, [4])]),
  (false, [(.istore_n 3, []), (.iinc 2 1, []), (.goto 107, [14])]),
  (false, [(.aload_n 0, []), (.iload_n 2, []), (.invokevirtual 152, [1, 11, 3, 2, 1, 0, 1]), (.ifCond .eq 19, [7]), (.nop, [6])]),
  (true, [(.aload_n 0, []), (.iload_n 2, []), (.invokevirtual 125, [1, 11, 1, 2, 1, 0, 1]), (.bipush 10, []), (.if_icmp .eq 89, [14]), (.iinc 2 1, []), (.goto (-13), [6])]),
  (false, [(.aload_n 0, []), (.iload_n 2, []), (.putfield 146, [11, 15, 0]), (.nop, [8])]),
  (true, [(.aload_n 0, []), (.iload_n 2, []), (.invokevirtual 125, [1, 11, 1, 2, 1, 0, 1]), (.bipush 10, []), (.if_icmp .eq 28, [9]), (.aload_n 0, []), (.iload_n 2, []), (.invokevirtual 125, [1, 11, 1, 2, 1, 0, 1]), (.invokestatic 149, [0, 11, 2, 1, 1, 0, 1]), (.ifCond .ne 17, [9]), (.aload_n 0, []), (.iload_n 2, []), (.invokevirtual 152, [1, 11, 3, 2, 1, 0, 1]), (.ifCond .ne 9, [9]), (.iinc 2 1, []), (.goto (-32), [8])]),
  (true, [(.aload_n 0, []), (.iload_n 2, []), (.putfield 155, [11, 16, 0]), (.iload_n 3, []), (.ifCond .eq 7, [10]), (.iconst 1, []), (.goto 18, [12])]),
  (false, [(.iload_n 1, []), (.ifCond .eq 10, [11]), (.aload_n 0, []), (.invokevirtual 158, [1, 11, 10, 1, 1, 0, 1]), (.goto 7, [12])]),
  (false, [(.aload_n 0, []), (.invokevirtual 162, [1, 11, 8, 1, 1, 0, 1]), (.nop, [12])]),
  (false, [(.istore 5, []), (.iload 5, []), (.ifCond .eq 6, [13]), (.iload 5, []), (.ireturn, [])]),
  (false, [(.iconst 1, []), (.istore_n 3, []), (.nop, [14])]),
  (false, [(.goto (-157), [1])]),
  (false, [(.iconst 0, []), (.ireturn, [])])]
/-- TowerComputer$Signs.look()I -/
def m_11_8 : List am_B := [
  (false, [(.aload_n 0, []), (.aload_n 0, []), (.getfield 146, [11, 15, 0]), (.invokevirtual 125, [1, 11, 1, 2, 1, 0, 1]), (.istore_n 1, []), (.iload_n 1, []), (.bipush 40, []), (.if_icmp .ne 8, [1]), (.aload_n 0, []), (.invokevirtual 165, [1, 11, 9, 1, 1, 0, 1]), (.ireturn, [])]),
  (false, [(.iload_n 1, []), (.bipush 64, []), (.if_icmp .ne 35, [4]), (.aload_n 0, []), (.invokevirtual 168, [1, 11, 12, 1, 1, 0, 1]), (.ifCond .ne 20, [2]), (.aload_n 0, []), (.aload_n 0, []), (.getfield 146, [11, 15, 0]), (.iconst 1, []), (.iadd, []), (.aload_n 0, []), (.getfield 155, [11, 16, 0]), (.invokevirtual 172, [1, 11, 14, 3, 1, 0, 1]), (.ifCond .eq 7, [3]), (.nop, [2])]),
  (false, [(.iconst 1, []), (.goto 20, [6])]),
  (false, [(.iconst 0, []), (.goto 16, [6])]),
  (false, [(.aload_n 0, []), (.invokevirtual 176, [1, 11, 19, 1, 1, 0, 1]), (.iconst (-1), []), (.if_icmp .eq 7, [5]), (.iconst 1, []), (.goto 4, [6])]),
  (false, [(.iconst 0, []), (.nop, [6])]),
  (true, [(.istore_n 2, []), (.iload_n 2, []), (.ifCond .ne 5, [7]), (.iconst 1, []), (.ireturn, [])]),
  (false, [(.aload_n 0, []), (.getfield 133, [11, 12, 0]), (.sipush 1500, []), (.if_icmp .ne 5, [8]), (.iconst 2, []), (.ireturn, [])]),
  (false, [(.aload_n 0, []), (.dup, []), (.getfield 133, [11, 12, 0]), (.iconst 1, []), (.iadd, []), (.putfield 133, [11, 12, 0]), (.iload_n 1, []), (.bipush 64, []), (.if_icmp .ne 46, [9]), (.aload_n 0, []), (.invokevirtual 168, [1, 11, 12, 1, 1, 0, 1]), (.ifCond .ne 39, [9]), (.aload_n 0, []), (.aload_n 0, []), (.getfield 146, [11, 15, 0]), (.iconst 1, []), (.iadd, []), (.aload_n 0, []), (.getfield 155, [11, 16, 0]), (.invokevirtual 179, [1, 11, 16, 3, 1, 0, 1]), (.iconst (-1), []), (.if_icmp .ne 21, [9]), (.aload_n 0, []), (.aload_n 0, []), (.getfield 146, [11, 15, 0]), (.iconst 1, []), (.iadd, []), (.aload_n 0, []), (.getfield 155, [11, 16, 0]), (.invokevirtual 183, [1, 11, 17, 3, 1, 0, 1]), (.iconst (-1), []), (.if_icmp .eq 7, [10]), (.nop, [9])]),
  (false, [(.iconst 0, []), (.goto 4, [11])]),
  (false, [(.iconst 2, []), (.nop, [11])]),
  (false, [(.ireturn, [])])]
/-- TowerComputer$Signs.label()I -/
def m_11_9 : List am_B := [
  (false, [(.aload_n 0, []), (.aload_n 0, []), (.getfield 155, [11, 16, 0]), (.iconst 1, []), (.isub, []), (.invokevirtual 125, [1, 11, 1, 2, 1, 0, 1]), (.bipush 41, []), (.if_icmp .ne 22, [1]), (.aload_n 0, []), (.aload_n 0, []), (.getfield 146, [11, 15, 0]), (.iconst 1, []), (.iadd, []), (.aload_n 0, []), (.getfield 155, [11, 16, 0]), (.iconst 1, []), (.isub, []), (.invokevirtual 172, [1, 11, 14, 3, 1, 0, 1]), (.ifCond .ne 5, [2]), (.nop, [1])]),
  (false, [(.iconst 1, []), (.ireturn, [])]),
  (false, [(.aload_n 0, []), (.aload_n 0, []), (.getfield 146, [11, 15, 0]), (.iconst 1, []), (.iadd, []), (.aload_n 0, []), (.getfield 155, [11, 16, 0]), (.iconst 1, []), (.isub, []), (.invokevirtual 179, [1, 11, 16, 3, 1, 0, 1]), (.iconst (-1), []), (.if_icmp .eq 5, [3]), (.iconst 3, []), (.ireturn, [])]),
  (false, [(.aload_n 0, []), (.aload_n 0, []), (.getfield 146, [11, 15, 0]), (.iconst 1, []), (.iadd, []), (.aload_n 0, []), (.getfield 155, [11, 16, 0]), (.iconst 1, []), (.isub, []), (.invokevirtual 183, [1, 11, 17, 3, 1, 0, 1]), (.istore_n 1, []), (.iload_n 1, []), (.iconst (-1), []), (.if_icmp .ne 5, [4]), (.iconst 2, []), (.ireturn, [])]),
  (false, [(.aload_n 0, []), (.getfield 20, [11, 4, 1]), (.iload_n 1, []), (.iaload, []), (.iconst (-1), []), (.if_icmp .eq 5, [5]), (.iconst 3, []), (.ireturn, [])]),
  (false, [(.aload_n 0, []), (.getfield 20, [11, 4, 1]), (.iload_n 1, []), (.aload_n 0, []), (.getfield 133, [11, 12, 0]), (.iastore, []), (.iconst 0, []), (.ireturn, [])])]
/-- TowerComputer$Signs.writes()I -/
def m_11_10 : List am_B := [
  (false, [(.aload_n 0, []), (.aload_n 0, []), (.getfield 146, [11, 15, 0]), (.invokevirtual 125, [1, 11, 1, 2, 1, 0, 1]), (.istore_n 1, []), (.iload_n 1, []), (.bipush 40, []), (.if_icmp .ne 5, [1]), (.iconst 0, []), (.ireturn, [])]),
  (false, [(.aload_n 0, []), (.getfield 9, [11, 1, 1]), (.aload_n 0, []), (.getfield 133, [11, 12, 0]), (.iload_n 1, []), (.bipush 64, []), (.if_icmp .eq 10, [2]), (.aload_n 0, []), (.invokevirtual 176, [1, 11, 19, 1, 1, 0, 1]), (.goto 31, [4])]),
  (false, [(.aload_n 0, []), (.invokevirtual 168, [1, 11, 12, 1, 1, 0, 1]), (.ifCond .eq 10, [3]), (.aload_n 0, []), (.invokevirtual 186, [1, 11, 13, 1, 1, 0, 1]), (.goto 17, [4])]),
  (false, [(.aload_n 0, []), (.aload_n 0, []), (.getfield 146, [11, 15, 0]), (.iconst 1, []), (.iadd, []), (.aload_n 0, []), (.getfield 155, [11, 16, 0]), (.invokevirtual 189, [1, 11, 11, 3, 1, 0, 1]), (.nop, [4])]),
  (false, [(.iastore, []), (.aload_n 0, []), (.dup, []), (.getfield 133, [11, 12, 0]), (.iconst 1, []), (.iadd, []), (.putfield 133, [11, 12, 0]), (.iconst 0, []), (.ireturn, [])])]
/-- TowerComputer$Signs.value(II)I -/
def m_11_11 : List am_B := [
  (false, [(.aload_n 0, []), (.iload_n 1, []), (.iload_n 2, []), (.invokevirtual 179, [1, 11, 16, 3, 1, 0, 1]), (.istore_n 3, []), (.iload_n 3, []), (.iconst (-1), []), (.if_icmp .eq 7, [1]), (.iload_n 3, []), (.goto 14, [2])]),
  (false, [(.aload_n 0, []), (.getfield 20, [11, 4, 1]), (.aload_n 0, []), (.iload_n 1, []), (.iload_n 2, []), (.invokevirtual 183, [1, 11, 17, 3, 1, 0, 1]), (.iaload, []), (.nop, [2])]),
  (false, [(.ireturn, [])])]
/-- TowerComputer$Signs.isNumber()Z -/
def m_11_12 : List am_B := [
  (false, [(.aload_n 0, []), (.getfield 155, [11, 16, 0]), (.aload_n 0, []), (.getfield 146, [11, 15, 0]), (.isub, []), (.iconst 1, []), (.isub, []), (.istore_n 1, []), (.iload_n 1, []), (.iconst 1, []), (.if_icmp .lt 12, [1]), (.iload_n 1, []), (.iconst 5, []), (.if_icmp .gt 7, [1]), (.iconst 1, []), (.goto 4, [2])]),
  (false, [(.iconst 0, []), (.nop, [2])]),
  (false, [(.istore_n 2, []), (.aload_n 0, []), (.getfield 146, [11, 15, 0]), (.iconst 1, []), (.iadd, []), (.istore_n 3, []), (.nop, [3])]),
  (true, [(.iload_n 3, []), (.aload_n 0, []), (.getfield 155, [11, 16, 0]), (.if_icmp .ge 22, [4]), (.iload_n 2, []), (.ifCond .eq 18, [4]), (.aload_n 0, []), (.iload_n 3, []), (.invokevirtual 125, [1, 11, 1, 2, 1, 0, 1]), (.invokestatic 129, [0, 11, 4, 1, 1, 0, 1]), (.istore_n 2, []), (.iinc 3 1, []), (.goto (-24), [3])]),
  (true, [(.iload_n 2, []), (.ifCond .eq 17, [5]), (.aload_n 0, []), (.invokevirtual 186, [1, 11, 13, 1, 1, 0, 1]), (.sipush 32767, []), (.if_icmp .gt 7, [5]), (.iconst 1, []), (.goto 4, [6])]),
  (false, [(.iconst 0, []), (.nop, [6])]),
  (false, [(.ireturn, [1])])]
/-- TowerComputer$Signs.number()I -/
def m_11_13 : List am_B := [
  (false, [(.iconst 0, []), (.istore_n 1, []), (.aload_n 0, []), (.getfield 146, [11, 15, 0]), (.iconst 1, []), (.iadd, []), (.istore_n 2, []), (.nop, [1])]),
  (true, [(.iload_n 2, []), (.aload_n 0, []), (.getfield 155, [11, 16, 0]), (.if_icmp .ge 23, [2]), (.bipush 10, []), (.iload_n 1, []), (.imul, []), (.aload_n 0, []), (.iload_n 2, []), (.invokevirtual 125, [1, 11, 1, 2, 1, 0, 1]), (.iadd, []), (.bipush 48, []), (.isub, []), (.istore_n 1, []), (.iinc 2 1, []), (.goto (-25), [1])]),
  (false, [(.iload_n 1, []), (.ireturn, [])])]
/-- TowerComputer$Signs.isSymbol(II)Z -/
def m_11_14 : List am_B := [
  (false, [(.iload_n 2, []), (.iload_n 1, []), (.isub, []), (.iconst 1, []), (.if_icmp .lt 26, [1]), (.iload_n 2, []), (.iload_n 1, []), (.isub, []), (.bipush 16, []), (.if_icmp .gt 18, [1]), (.aload_n 0, []), (.iload_n 1, []), (.invokevirtual 125, [1, 11, 1, 2, 1, 0, 1]), (.invokestatic 129, [0, 11, 4, 1, 1, 0, 1]), (.ifCond .ne 7, [1]), (.iconst 1, []), (.goto 4, [2])]),
  (false, [(.iconst 0, []), (.nop, [2])]),
  (false, [(.istore_n 3, []), (.iload_n 1, []), (.istore 4, []), (.nop, [3])]),
  (true, [(.iload 4, []), (.iload_n 2, []), (.if_icmp .ge 23, [4]), (.iload_n 3, []), (.ifCond .eq 19, [4]), (.aload_n 0, []), (.iload 4, []), (.invokevirtual 125, [1, 11, 1, 2, 1, 0, 1]), (.invokestatic 192, [0, 11, 5, 1, 1, 0, 1]), (.istore_n 3, []), (.iinc 4 1, []), (.goto (-23), [3])]),
  (false, [(.iload_n 3, []), (.ireturn, [1])])]
/-- TowerComputer$Signs.is(IILjava/lang/String;)Z -/
def m_11_15 : List am_B := [
  (false, [(.iload_n 2, []), (.iload_n 1, []), (.isub, []), (.aload_n 3, []), (.invokevirtual 195, [6, 0, 0, 1, 0, 0, 0]), (.if_icmp .ne 7, [1]), (.iconst 1, []), (.goto 4, [2])]),
  (false, [(.iconst 0, []), (.nop, [2])]),
  (false, [(.istore 4, []), (.iload_n 1, []), (.istore 5, []), (.nop, [3])]),
  (true, [(.iload 5, []), (.iload_n 2, []), (.if_icmp .ge 38, [6]), (.iload 4, []), (.ifCond .eq 33, [6]), (.aload_n 0, []), (.iload 5, []), (.invokevirtual 125, [1, 11, 1, 2, 1, 0, 1]), (.aload_n 3, []), (.iload 5, []), (.iload_n 1, []), (.isub, []), (.invokevirtual 197, [7, 0, 0, 2, 0, 0, 0]), (.if_icmp .ne 7, [4]), (.iconst 1, []), (.goto 4, [5])]),
  (false, [(.iconst 0, []), (.nop, [5])]),
  (false, [(.istore 4, []), (.iinc 5 1, []), (.goto (-38), [3])]),
  (false, [(.iload 4, []), (.ireturn, [1])])]
/-- TowerComputer$Signs.known(II)I -/
def m_11_16 : List am_B := [
  (false, [(.iconst 0, []), (.istore_n 3, []), (.nop, [1])]),
  (true, [(.iload_n 3, []), (.aload_n 0, []), (.getfield 39, [11, 5, 1]), (.arraylength, [0, 10]), (.if_icmp .ge 31, [3]), (.aload_n 0, []), (.iload_n 1, []), (.iload_n 2, []), (.aload_n 0, []), (.getfield 39, [11, 5, 1]), (.iload_n 3, []), (.aaload, [10]), (.invokevirtual 201, [1, 11, 15, 4, 1, 0, 1]), (.ifCond .eq 10, [2]), (.aload_n 0, []), (.getfield 43, [11, 6, 1]), (.iload_n 3, []), (.iaload, []), (.ireturn, [])]),
  (false, [(.iinc 3 1, []), (.goto (-34), [1])]),
  (false, [(.aload_n 0, []), (.iload_n 1, []), (.invokevirtual 125, [1, 11, 1, 2, 1, 0, 1]), (.bipush 82, []), (.if_icmp .ne 30, [4]), (.iload_n 2, []), (.iload_n 1, []), (.isub, []), (.iconst 2, []), (.if_icmp .lt 23, [4]), (.iload_n 2, []), (.iload_n 1, []), (.isub, []), (.iconst 3, []), (.if_icmp .gt 16, [4]), (.aload_n 0, []), (.iload_n 1, []), (.iconst 1, []), (.iadd, []), (.invokevirtual 125, [1, 11, 1, 2, 1, 0, 1]), (.invokestatic 129, [0, 11, 4, 1, 1, 0, 1]), (.ifCond .ne 5, [5]), (.nop, [4])]),
  (false, [(.iconst (-1), []), (.ireturn, [])]),
  (false, [(.iload_n 2, []), (.iload_n 1, []), (.isub, []), (.iconst 2, []), (.if_icmp .ne 14, [6]), (.aload_n 0, []), (.iload_n 1, []), (.iconst 1, []), (.iadd, []), (.invokevirtual 125, [1, 11, 1, 2, 1, 0, 1]), (.bipush 48, []), (.isub, []), (.ireturn, [])]),
  (false, [(.aload_n 0, []), (.iload_n 1, []), (.iconst 1, []), (.iadd, []), (.invokevirtual 125, [1, 11, 1, 2, 1, 0, 1]), (.bipush 49, []), (.if_icmp .ne 43, [7]), (.aload_n 0, []), (.iload_n 1, []), (.iconst 2, []), (.iadd, []), (.invokevirtual 125, [1, 11, 1, 2, 1, 0, 1]), (.bipush 48, []), (.if_icmp .lt 31, [7]), (.aload_n 0, []), (.iload_n 1, []), (.iconst 2, []), (.iadd, []), (.invokevirtual 125, [1, 11, 1, 2, 1, 0, 1]), (.bipush 53, []), (.if_icmp .gt 19, [7]), (.bipush 10, []), (.aload_n 0, []), (.iload_n 1, []), (.iconst 2, []), (.iadd, []), (.invokevirtual 125, [1, 11, 1, 2, 1, 0, 1]), (.iadd, []), (.bipush 48, []), (.isub, []), (.goto 4, [8])]),
  (false, [(.iconst (-1), []), (.nop, [8])]),
  (false, [(.ireturn, [])])]
/-- TowerComputer$Signs.symbol(II)I -/
def m_11_17 : List am_B := [
  (false, [(.iconst 0, []), (.istore_n 3, []), (.nop, [1])]),
  (true, [(.iload_n 3, []), (.aload_n 0, []), (.getfield 136, [11, 13, 0]), (.if_icmp .ge 86, [9]), (.aload_n 0, []), (.getfield 17, [11, 3, 1]), (.iload_n 3, []), (.iaload, []), (.iload_n 2, []), (.iload_n 1, []), (.isub, []), (.if_icmp .ne 7, [2]), (.iconst 1, []), (.goto 4, [3])]),
  (false, [(.iconst 0, []), (.nop, [3])]),
  (false, [(.istore 4, []), (.iload_n 1, []), (.istore 5, []), (.nop, [4])]),
  (true, [(.iload 5, []), (.iload_n 2, []), (.if_icmp .ge 45, [7]), (.iload 4, []), (.ifCond .eq 40, [7]), (.aload_n 0, []), (.getfield 13, [11, 2, 1]), (.bipush 16, []), (.iload_n 3, []), (.imul, []), (.iload 5, []), (.iadd, []), (.iload_n 1, []), (.isub, []), (.baload, [2]), (.aload_n 0, []), (.getfield 118, [11, 0, 1]), (.iload 5, []), (.baload, [2]), (.if_icmp .ne 7, [5]), (.iconst 1, []), (.goto 4, [6])]),
  (false, [(.iconst 0, []), (.nop, [6])]),
  (false, [(.istore 4, []), (.iinc 5 1, []), (.goto (-45), [4])]),
  (false, [(.iload 4, []), (.ifCond .eq 5, [8]), (.iload_n 3, []), (.ireturn, [])]),
  (false, [(.iinc 3 1, []), (.goto (-88), [1])]),
  (false, [(.aload_n 0, []), (.getfield 136, [11, 13, 0]), (.bipush 100, []), (.if_icmp .ne 5, [10]), (.iconst (-1), []), (.ireturn, [])]),
  (false, [(.iload_n 1, []), (.istore_n 3, []), (.nop, [11])]),
  (true, [(.iload_n 3, []), (.iload_n 2, []), (.if_icmp .ge 31, [12]), (.aload_n 0, []), (.getfield 13, [11, 2, 1]), (.bipush 16, []), (.aload_n 0, []), (.getfield 136, [11, 13, 0]), (.imul, []), (.iload_n 3, []), (.iadd, []), (.iload_n 1, []), (.isub, []), (.aload_n 0, []), (.getfield 118, [11, 0, 1]), (.iload_n 3, []), (.baload, [2]), (.bastore, [2]), (.iinc 3 1, []), (.goto (-30), [11])]),
  (false, [(.aload_n 0, []), (.getfield 17, [11, 3, 1]), (.aload_n 0, []), (.getfield 136, [11, 13, 0]), (.iload_n 2, []), (.iload_n 1, []), (.isub, []), (.iastore, []), (.aload_n 0, []), (.getfield 20, [11, 4, 1]), (.aload_n 0, []), (.getfield 136, [11, 13, 0]), (.iconst (-1), []), (.iastore, []), (.aload_n 0, []), (.dup, []), (.getfield 136, [11, 13, 0]), (.iconst 1, []), (.iadd, []), (.putfield 136, [11, 13, 0]), (.aload_n 0, []), (.getfield 136, [11, 13, 0]), (.iconst 1, []), (.isub, []), (.ireturn, [])])]
/-- TowerComputer$Signs.find(II[Ljava/lang/String;)I -/
def m_11_18 : List am_B := [
  (false, [(.iconst 0, []), (.istore 4, []), (.nop, [1])]),
  (true, [(.iload 4, []), (.aload_n 3, []), (.arraylength, [0, 10]), (.if_icmp .ge 25, [3]), (.aload_n 0, []), (.iload_n 1, []), (.iload_n 2, []), (.aload_n 3, []), (.iload 4, []), (.aaload, [10]), (.invokevirtual 201, [1, 11, 15, 4, 1, 0, 1]), (.ifCond .eq 6, [2]), (.iload 4, []), (.ireturn, [])]),
  (false, [(.iinc 4 1, []), (.goto (-26), [1])]),
  (false, [(.iconst (-1), []), (.ireturn, [])])]
/-- TowerComputer$Signs.word()I -/
def m_11_19 : List am_B := [
  (false, [(.aload_n 0, []), (.getfield 146, [11, 15, 0]), (.istore_n 1, []), (.nop, [1])]),
  (true, [(.iload_n 1, []), (.aload_n 0, []), (.getfield 155, [11, 16, 0]), (.if_icmp .ge 19, [2]), (.aload_n 0, []), (.iload_n 1, []), (.invokevirtual 125, [1, 11, 1, 2, 1, 0, 1]), (.bipush 61, []), (.if_icmp .eq 9, [2]), (.iinc 1 1, []), (.goto (-21), [1])]),
  (false, [(.aload_n 0, []), (.getfield 146, [11, 15, 0]), (.istore_n 2, []), (.nop, [3])]),
  (true, [(.iload_n 2, []), (.aload_n 0, []), (.getfield 155, [11, 16, 0]), (.if_icmp .ge 19, [4]), (.aload_n 0, []), (.iload_n 2, []), (.invokevirtual 125, [1, 11, 1, 2, 1, 0, 1]), (.bipush 59, []), (.if_icmp .eq 9, [4]), (.iinc 2 1, []), (.goto (-21), [3])]),
  (false, [(.iload_n 1, []), (.aload_n 0, []), (.getfield 155, [11, 16, 0]), (.if_icmp .ge 9, [5]), (.iload_n 1, []), (.iconst 1, []), (.iadd, []), (.goto 7, [6])]),
  (false, [(.aload_n 0, []), (.getfield 146, [11, 15, 0]), (.nop, [6])]),
  (true, [(.istore_n 3, []), (.iload_n 1, []), (.aload_n 0, []), (.getfield 155, [11, 16, 0]), (.if_icmp .ge 21, [7]), (.aload_n 0, []), (.aload_n 0, []), (.getfield 146, [11, 15, 0]), (.iload_n 1, []), (.aload_n 0, []), (.getfield 98, [11, 9, 1]), (.invokevirtual 205, [1, 11, 18, 4, 1, 0, 1]), (.iconst 1, []), (.iadd, []), (.goto 4, [8])]),
  (false, [(.iconst 0, []), (.nop, [8])]),
  (true, [(.istore 4, []), (.iload_n 2, []), (.aload_n 0, []), (.getfield 155, [11, 16, 0]), (.if_icmp .ge 23, [9]), (.aload_n 0, []), (.iload_n 2, []), (.iconst 1, []), (.iadd, []), (.aload_n 0, []), (.getfield 155, [11, 16, 0]), (.aload_n 0, []), (.getfield 115, [11, 10, 1]), (.invokevirtual 205, [1, 11, 18, 4, 1, 0, 1]), (.iconst 1, []), (.iadd, []), (.goto 4, [10])]),
  (false, [(.iconst 0, []), (.nop, [10])]),
  (true, [(.istore 5, []), (.iload_n 1, []), (.aload_n 0, []), (.getfield 155, [11, 16, 0]), (.if_icmp .ge 8, [11]), (.iload 4, []), (.ifCond .eq 21, [13]), (.nop, [11])]),
  (false, [(.iload_n 2, []), (.aload_n 0, []), (.getfield 155, [11, 16, 0]), (.if_icmp .ge 8, [12]), (.iload 5, []), (.ifCond .eq 8, [13]), (.nop, [12])]),
  (true, [(.iload_n 3, []), (.iload_n 2, []), (.if_icmp .le 5, [14]), (.nop, [13])]),
  (false, [(.iconst (-1), []), (.ireturn, [])]),
  (false, [(.aload_n 0, []), (.iload_n 3, []), (.iload_n 2, []), (.invokevirtual 209, [1, 11, 20, 3, 1, 0, 1]), (.istore 6, []), (.iload 6, []), (.iconst (-1), []), (.if_icmp .ne 7, [15]), (.iconst (-1), []), (.goto 17, [16])]),
  (false, [(.ldc 212, [0, 57344]), (.iload 6, []), (.iadd, []), (.bipush 8, []), (.iload 4, []), (.imul, []), (.iadd, []), (.iload 5, []), (.iadd, []), (.nop, [16])]),
  (false, [(.ireturn, [])])]
/-- TowerComputer$Signs.comp(II)I -/
def m_11_20 : List am_B := [
  (false, [(.iconst 0, []), (.istore_n 3, []), (.nop, [1])]),
  (true, [(.iload_n 3, []), (.aload_n 0, []), (.getfield 82, [11, 7, 1]), (.arraylength, [0, 10]), (.if_icmp .ge 162, [17]), (.aload_n 0, []), (.getfield 82, [11, 7, 1]), (.iload_n 3, []), (.aaload, [10]), (.astore 4, []), (.iload_n 2, []), (.iload_n 1, []), (.isub, []), (.aload 4, []), (.invokevirtual 195, [6, 0, 0, 1, 0, 0, 0]), (.if_icmp .ne 7, [2]), (.iconst 1, []), (.goto 4, [3])]),
  (false, [(.iconst 0, []), (.nop, [3])]),
  (false, [(.istore 5, []), (.iconst 0, []), (.istore 6, []), (.iload_n 1, []), (.istore 7, []), (.nop, [4])]),
  (true, [(.iload 7, []), (.iload_n 2, []), (.if_icmp .ge 90, [13]), (.iload 5, []), (.ifCond .eq 85, [13]), (.aload 4, []), (.iload 7, []), (.iload_n 1, []), (.isub, []), (.invokevirtual 197, [7, 0, 0, 2, 0, 0, 0]), (.istore 8, []), (.iload 8, []), (.bipush 65, []), (.if_icmp .ne 18, [5]), (.aload_n 0, []), (.iload 7, []), (.invokevirtual 125, [1, 11, 1, 2, 1, 0, 1]), (.bipush 77, []), (.if_icmp .ne 7, [5]), (.iconst 1, []), (.goto 4, [6])]),
  (true, [(.iconst 0, []), (.nop, [6])]),
  (false, [(.istore 9, []), (.iload 6, []), (.ifCond .ne 8, [7]), (.iload 9, []), (.ifCond .eq 7, [8]), (.nop, [7])]),
  (false, [(.iconst 1, []), (.goto 4, [9])]),
  (false, [(.iconst 0, []), (.nop, [9])]),
  (true, [(.istore 6, []), (.iload 9, []), (.ifCond .ne 14, [10]), (.aload_n 0, []), (.iload 7, []), (.invokevirtual 125, [1, 11, 1, 2, 1, 0, 1]), (.iload 8, []), (.if_icmp .ne 7, [11]), (.nop, [10])]),
  (false, [(.iconst 1, []), (.goto 4, [12])]),
  (false, [(.iconst 0, []), (.nop, [12])]),
  (false, [(.istore 5, []), (.iinc 7 1, []), (.goto (-90), [4])]),
  (true, [(.iload 5, []), (.ifCond .eq 26, [16]), (.bipush 64, []), (.aload_n 0, []), (.getfield 85, [11, 8, 1]), (.iload_n 3, []), (.iaload, []), (.imul, []), (.iload 6, []), (.ifCond .eq 9, [14]), (.sipush 4096, []), (.goto 4, [15])]),
  (false, [(.iconst 0, []), (.nop, [15])]),
  (false, [(.iadd, []), (.ireturn, [])]),
  (false, [(.iinc 3 1, []), (.goto (-165), [1])]),
  (false, [(.iconst (-1), []), (.ireturn, [])])]
